theorem q93 : (Jvm.Cond.initialized "AntennaTunerLaw") ∈ lw_all := lw_g (lw_at lw_m1 0 rfl) rfl
set_option maxRecDepth 100000
theorem q130 : (Jvm.Cond.classLink "AntennaTunerLaw" (7 : Nat) "AntennaTuner") ∈ lw_all := lw_g (lw_at lw_m1 37 rfl) rfl
theorem q132 : (Jvm.Cond.methodLink "AntennaTunerLaw" (9 : Nat) ({ cls := "AntennaTuner", name := "<init>", desc := "()V" } : Jvm.MethodName)) ∈ lw_all := lw_g (lw_at lw_m1 39 rfl) rfl
theorem q319 : (Jvm.Cond.methodLink "AntennaTunerLaw" (13 : Nat) ({ cls := "AntennaTuner", name := "append", desc := "(IIIII)I" } : Jvm.MethodName)) ∈ lw_all := lw_g (lw_at lw_m1 226 rfl) rfl
theorem q327 : (Jvm.Cond.methodLink "AntennaTunerLaw" (18 : Nat) ({ cls := "AntennaTuner", name := "truncate", desc := "(I)I" } : Jvm.MethodName)) ∈ lw_all := lw_g (lw_at lw_m1 234 rfl) rfl
theorem q334 : (Jvm.Cond.methodLink "AntennaTunerLaw" (23 : Nat) ({ cls := "AntennaTuner", name := "load", desc := "()I" } : Jvm.MethodName)) ∈ lw_all := lw_g (lw_at lw_m2 1 rfl) rfl
theorem q849 : (Jvm.Cond.methodLink "AntennaTunerLaw" (28 : Nat) ({ cls := "AntennaTuner", name := "errorPosition", desc := "()I" } : Jvm.MethodName)) ∈ lw_all := lw_g (lw_at lw_m4 36 rfl) rfl
theorem q853 : (Jvm.Cond.methodLink "AntennaTunerLaw" (32 : Nat) ({ cls := "AntennaTuner", name := "antennaResistance", desc := "(I)J" } : Jvm.MethodName)) ∈ lw_all := lw_g (lw_at lw_m4 40 rfl) rfl
theorem q873 : (Jvm.Cond.methodLink "AntennaTunerLaw" (37 : Nat) ({ cls := "AntennaTuner", name := "antennaReactance", desc := "(I)J" } : Jvm.MethodName)) ∈ lw_all := lw_g (lw_at lw_m4 60 rfl) rfl
theorem q882 : (Jvm.Cond.methodLink "AntennaTunerLaw" (41 : Nat) ({ cls := "AntennaTuner", name := "resonance", desc := "(I)I" } : Jvm.MethodName)) ∈ lw_all := lw_g (lw_at lw_m4 69 rfl) rfl
theorem q886 : (Jvm.Cond.methodLink "AntennaTunerLaw" (45 : Nat) ({ cls := "AntennaTuner", name := "bandOf", desc := "(I)I" } : Jvm.MethodName)) ∈ lw_all := lw_g (lw_at lw_m4 73 rfl) rfl
theorem q895 : (Jvm.Cond.methodLink "AntennaTunerLaw" (49 : Nat) ({ cls := "AntennaTuner", name := "setFrequency", desc := "(I)I" } : Jvm.MethodName)) ∈ lw_all := lw_g (lw_at lw_m4 82 rfl) rfl
theorem q1031 : (Jvm.Cond.methodLink "AntennaTunerLaw" (53 : Nat) ({ cls := "AntennaTuner", name := "setSide", desc := "(I)I" } : Jvm.MethodName)) ∈ lw_all := lw_g (lw_at lw_m4 218 rfl) rfl
theorem q1056 : (Jvm.Cond.methodLink "AntennaTunerLaw" (57 : Nat) ({ cls := "AntennaTuner", name := "setCoil", desc := "(I)I" } : Jvm.MethodName)) ∈ lw_all := lw_g (lw_at lw_m5 3 rfl) rfl
theorem q1063 : (Jvm.Cond.methodLink "AntennaTunerLaw" (61 : Nat) ({ cls := "AntennaTuner", name := "setCapacitor", desc := "(I)I" } : Jvm.MethodName)) ∈ lw_all := lw_g (lw_at lw_m5 10 rfl) rfl
theorem q1067 : (Jvm.Cond.methodLink "AntennaTunerLaw" (65 : Nat) ({ cls := "AntennaTuner", name := "frequency", desc := "()I" } : Jvm.MethodName)) ∈ lw_all := lw_g (lw_at lw_m5 14 rfl) rfl
theorem q1071 : (Jvm.Cond.methodLink "AntennaTunerLaw" (69 : Nat) ({ cls := "AntennaTuner", name := "settings", desc := "()I" } : Jvm.MethodName)) ∈ lw_all := lw_g (lw_at lw_m5 18 rfl) rfl
theorem q1075 : (Jvm.Cond.methodLink "AntennaTunerLaw" (73 : Nat) ({ cls := "AntennaTuner", name := "relaysTo", desc := "(III)I" } : Jvm.MethodName)) ∈ lw_all := lw_g (lw_at lw_m5 22 rfl) rfl
theorem q1089 : (Jvm.Cond.methodLink "AntennaTunerLaw" (78 : Nat) ({ cls := "AntennaTuner", name := "inputResistance", desc := "()J" } : Jvm.MethodName)) ∈ lw_all := lw_g (lw_at lw_m5 36 rfl) rfl
theorem q1111 : (Jvm.Cond.methodLink "AntennaTunerLaw" (83 : Nat) ({ cls := "AntennaTuner", name := "inputReactance", desc := "()J" } : Jvm.MethodName)) ∈ lw_all := lw_g (lw_at lw_m5 58 rfl) rfl
theorem q1115 : (Jvm.Cond.methodLink "AntennaTunerLaw" (87 : Nat) ({ cls := "AntennaTuner", name := "swr", desc := "()I" } : Jvm.MethodName)) ∈ lw_all := lw_g (lw_at lw_m5 62 rfl) rfl
theorem q1136 : (Jvm.Cond.methodLink "AntennaTunerLaw" (91 : Nat) ({ cls := "AntennaTuner", name := "swrAt", desc := "(I)I" } : Jvm.MethodName)) ∈ lw_all := lw_g (lw_at lw_m5 83 rfl) rfl
theorem q1144 : (Jvm.Cond.methodLink "AntennaTunerLaw" (95 : Nat) ({ cls := "AntennaTuner", name := "swrWith", desc := "(III)I" } : Jvm.MethodName)) ∈ lw_all := lw_g (lw_at lw_m5 91 rfl) rfl
theorem q1152 : (Jvm.Cond.methodLink "AntennaTunerLaw" (99 : Nat) ({ cls := "AntennaTuner", name := "efficiency", desc := "()I" } : Jvm.MethodName)) ∈ lw_all := lw_g (lw_at lw_m5 99 rfl) rfl
theorem q1161 : (Jvm.Cond.methodLink "AntennaTunerLaw" (103 : Nat) ({ cls := "AntennaTuner", name := "capacitorVoltage", desc := "()I" } : Jvm.MethodName)) ∈ lw_all := lw_g (lw_at lw_m5 108 rfl) rfl
theorem q1180 : (Jvm.Cond.methodLink "AntennaTunerLaw" (107 : Nat) ({ cls := "AntennaTuner", name := "greatestPower", desc := "()I" } : Jvm.MethodName)) ∈ lw_all := lw_g (lw_at lw_m5 127 rfl) rfl
theorem q1185 : (Jvm.Cond.methodLink "AntennaTunerLaw" (111 : Nat) ({ cls := "AntennaTuner", name := "highestMatched", desc := "()I" } : Jvm.MethodName)) ∈ lw_all := lw_g (lw_at lw_m5 132 rfl) rfl
theorem q1197 : (Jvm.Cond.methodLink "AntennaTunerLaw" (115 : Nat) ({ cls := "AntennaTuner", name := "lowestMatched", desc := "()I" } : Jvm.MethodName)) ∈ lw_all := lw_g (lw_at lw_m5 144 rfl) rfl
theorem q1201 : (Jvm.Cond.methodLink "AntennaTunerLaw" (119 : Nat) ({ cls := "AntennaTuner", name := "worstInBand", desc := "(I)I" } : Jvm.MethodName)) ∈ lw_all := lw_g (lw_at lw_m5 148 rfl) rfl
theorem q1205 : (Jvm.Cond.methodLink "AntennaTunerLaw" (123 : Nat) ({ cls := "AntennaTuner", name := "transmit", desc := "(I)I" } : Jvm.MethodName)) ∈ lw_all := lw_g (lw_at lw_m5 152 rfl) rfl
theorem q1221 : (Jvm.Cond.methodLink "AntennaTunerLaw" (127 : Nat) ({ cls := "AntennaTuner", name := "readingCount", desc := "()I" } : Jvm.MethodName)) ∈ lw_all := lw_g (lw_at lw_m5 168 rfl) rfl
theorem q1225 : (Jvm.Cond.methodLink "AntennaTunerLaw" (131 : Nat) ({ cls := "AntennaTuner", name := "reading", desc := "(I)I" } : Jvm.MethodName)) ∈ lw_all := lw_g (lw_at lw_m5 172 rfl) rfl
theorem q1229 : (Jvm.Cond.methodLink "AntennaTunerLaw" (135 : Nat) ({ cls := "AntennaTuner", name := "heat", desc := "()I" } : Jvm.MethodName)) ∈ lw_all := lw_g (lw_at lw_m5 176 rfl) rfl
theorem q1233 : (Jvm.Cond.methodLink "AntennaTunerLaw" (139 : Nat) ({ cls := "AntennaTuner", name := "arcsNoticed", desc := "(I)I" } : Jvm.MethodName)) ∈ lw_all := lw_g (lw_at lw_m5 180 rfl) rfl
theorem q1237 : (Jvm.Cond.methodLink "AntennaTunerLaw" (143 : Nat) ({ cls := "AntennaTuner", name := "tune", desc := "()I" } : Jvm.MethodName)) ∈ lw_all := lw_g (lw_at lw_m5 184 rfl) rfl
theorem q1379 : (Jvm.Cond.methodLink "AntennaTunerLaw" (147 : Nat) ({ cls := "AntennaTuner", name := "tuneCold", desc := "()I" } : Jvm.MethodName)) ∈ lw_all := lw_g (lw_at lw_m6 86 rfl) rfl
theorem q1383 : (Jvm.Cond.methodLink "AntennaTunerLaw" (151 : Nat) ({ cls := "AntennaTuner", name := "tuneFromMemory", desc := "()I" } : Jvm.MethodName)) ∈ lw_all := lw_g (lw_at lw_m6 90 rfl) rfl
theorem q1438 : (Jvm.Cond.methodLink "AntennaTunerLaw" (155 : Nat) ({ cls := "AntennaTuner", name := "evaluations", desc := "()I" } : Jvm.MethodName)) ∈ lw_all := lw_g (lw_at lw_m6 145 rfl) rfl
theorem q1442 : (Jvm.Cond.methodLink "AntennaTunerLaw" (159 : Nat) ({ cls := "AntennaTuner", name := "bestSettings", desc := "()I" } : Jvm.MethodName)) ∈ lw_all := lw_g (lw_at lw_m6 149 rfl) rfl
theorem q1447 : (Jvm.Cond.methodLink "AntennaTunerLaw" (163 : Nat) ({ cls := "AntennaTuner", name := "mostEfficient", desc := "()I" } : Jvm.MethodName)) ∈ lw_all := lw_g (lw_at lw_m6 154 rfl) rfl
theorem q1451 : (Jvm.Cond.methodLink "AntennaTunerLaw" (167 : Nat) ({ cls := "AntennaTuner", name := "failureDepth", desc := "()I" } : Jvm.MethodName)) ∈ lw_all := lw_g (lw_at lw_m6 158 rfl) rfl
theorem q1466 : (Jvm.Cond.methodLink "AntennaTunerLaw" (171 : Nat) ({ cls := "AntennaTuner", name := "failureKind", desc := "(I)I" } : Jvm.MethodName)) ∈ lw_all := lw_g (lw_at lw_m6 173 rfl) rfl
theorem q1496 : (Jvm.Cond.methodLink "AntennaTunerLaw" (175 : Nat) ({ cls := "AntennaTuner", name := "failureValue", desc := "(I)I" } : Jvm.MethodName)) ∈ lw_all := lw_g (lw_at lw_m6 203 rfl) rfl
theorem q1500 : (Jvm.Cond.methodLink "AntennaTunerLaw" (179 : Nat) ({ cls := "AntennaTuner", name := "store", desc := "()I" } : Jvm.MethodName)) ∈ lw_all := lw_g (lw_at lw_m6 207 rfl) rfl
theorem q1539 : (Jvm.Cond.methodLink "AntennaTunerLaw" (183 : Nat) ({ cls := "AntennaTuner", name := "recall", desc := "()I" } : Jvm.MethodName)) ∈ lw_all := lw_g (lw_at lw_m7 6 rfl) rfl
theorem q1543 : (Jvm.Cond.methodLink "AntennaTunerLaw" (187 : Nat) ({ cls := "AntennaTuner", name := "forget", desc := "(I)I" } : Jvm.MethodName)) ∈ lw_all := lw_g (lw_at lw_m7 10 rfl) rfl
theorem q1559 : (Jvm.Cond.methodLink "AntennaTunerLaw" (191 : Nat) ({ cls := "AntennaTuner", name := "memoryCount", desc := "()I" } : Jvm.MethodName)) ∈ lw_all := lw_g (lw_at lw_m7 26 rfl) rfl
theorem q1563 : (Jvm.Cond.methodLink "AntennaTunerLaw" (195 : Nat) ({ cls := "AntennaTuner", name := "memoryFrequency", desc := "(I)I" } : Jvm.MethodName)) ∈ lw_all := lw_g (lw_at lw_m7 30 rfl) rfl
theorem q1567 : (Jvm.Cond.methodLink "AntennaTunerLaw" (199 : Nat) ({ cls := "AntennaTuner", name := "memorySettings", desc := "(I)I" } : Jvm.MethodName)) ∈ lw_all := lw_g (lw_at lw_m7 34 rfl) rfl
theorem q1571 : (Jvm.Cond.methodLink "AntennaTunerLaw" (203 : Nat) ({ cls := "AntennaTuner", name := "memorySwr", desc := "(I)I" } : Jvm.MethodName)) ∈ lw_all := lw_g (lw_at lw_m7 38 rfl) rfl
theorem q1575 : (Jvm.Cond.methodLink "AntennaTunerLaw" (207 : Nat) ({ cls := "AntennaTuner", name := "undo", desc := "()I" } : Jvm.MethodName)) ∈ lw_all := lw_g (lw_at lw_m7 42 rfl) rfl
theorem q1594 : (Jvm.Cond.classLink "AntennaTunerLaw" (10 : Nat) "AntennaTunerModel") ∈ lw_all := lw_g (lw_at lw_m7 61 rfl) rfl
theorem q1596 : (Jvm.Cond.methodLink "AntennaTunerLaw" (12 : Nat) ({ cls := "AntennaTunerModel", name := "<init>", desc := "()V" } : Jvm.MethodName)) ∈ lw_all := lw_g (lw_at lw_m7 63 rfl) rfl
theorem q1742 : (Jvm.Cond.methodLink "AntennaTunerLaw" (17 : Nat) ({ cls := "AntennaTunerModel", name := "append", desc := "(IIIII)I" } : Jvm.MethodName)) ∈ lw_all := lw_g (lw_at lw_m7 209 rfl) rfl
theorem q1750 : (Jvm.Cond.methodLink "AntennaTunerLaw" (22 : Nat) ({ cls := "AntennaTunerModel", name := "truncate", desc := "(I)I" } : Jvm.MethodName)) ∈ lw_all := lw_g (lw_at lw_m7 217 rfl) rfl
theorem q1757 : (Jvm.Cond.methodLink "AntennaTunerLaw" (27 : Nat) ({ cls := "AntennaTunerModel", name := "load", desc := "()I" } : Jvm.MethodName)) ∈ lw_all := lw_g (lw_at lw_m7 224 rfl) rfl
theorem q1862 : (Jvm.Cond.methodLink "AntennaTunerLaw" (31 : Nat) ({ cls := "AntennaTunerModel", name := "errorPosition", desc := "()I" } : Jvm.MethodName)) ∈ lw_all := lw_g (lw_at lw_m8 89 rfl) rfl
theorem q1866 : (Jvm.Cond.methodLink "AntennaTunerLaw" (36 : Nat) ({ cls := "AntennaTunerModel", name := "antennaResistance", desc := "(I)J" } : Jvm.MethodName)) ∈ lw_all := lw_g (lw_at lw_m8 93 rfl) rfl
theorem q1888 : (Jvm.Cond.methodLink "AntennaTunerLaw" (40 : Nat) ({ cls := "AntennaTunerModel", name := "antennaReactance", desc := "(I)J" } : Jvm.MethodName)) ∈ lw_all := lw_g (lw_at lw_m8 115 rfl) rfl
theorem q1897 : (Jvm.Cond.methodLink "AntennaTunerLaw" (44 : Nat) ({ cls := "AntennaTunerModel", name := "resonance", desc := "(I)I" } : Jvm.MethodName)) ∈ lw_all := lw_g (lw_at lw_m8 124 rfl) rfl
theorem q1906 : (Jvm.Cond.methodLink "AntennaTunerLaw" (48 : Nat) ({ cls := "AntennaTunerModel", name := "bandOf", desc := "(I)I" } : Jvm.MethodName)) ∈ lw_all := lw_g (lw_at lw_m8 133 rfl) rfl
theorem q1914 : (Jvm.Cond.methodLink "AntennaTunerLaw" (210 : Nat) ({ cls := "AntennaTunerModel", name := "undo", desc := "()I" } : Jvm.MethodName)) ∈ lw_all := lw_g (lw_at lw_m8 141 rfl) rfl
theorem q1918 : (Jvm.Cond.methodLink "AntennaTunerLaw" (52 : Nat) ({ cls := "AntennaTunerModel", name := "setFrequency", desc := "(I)I" } : Jvm.MethodName)) ∈ lw_all := lw_g (lw_at lw_m8 145 rfl) rfl
theorem q1930 : (Jvm.Cond.methodLink "AntennaTunerLaw" (56 : Nat) ({ cls := "AntennaTunerModel", name := "setSide", desc := "(I)I" } : Jvm.MethodName)) ∈ lw_all := lw_g (lw_at lw_m8 157 rfl) rfl
theorem q1946 : (Jvm.Cond.methodLink "AntennaTunerLaw" (60 : Nat) ({ cls := "AntennaTunerModel", name := "setCoil", desc := "(I)I" } : Jvm.MethodName)) ∈ lw_all := lw_g (lw_at lw_m8 173 rfl) rfl
theorem q1951 : (Jvm.Cond.methodLink "AntennaTunerLaw" (64 : Nat) ({ cls := "AntennaTunerModel", name := "setCapacitor", desc := "(I)I" } : Jvm.MethodName)) ∈ lw_all := lw_g (lw_at lw_m8 178 rfl) rfl
theorem q1955 : (Jvm.Cond.methodLink "AntennaTunerLaw" (68 : Nat) ({ cls := "AntennaTunerModel", name := "frequency", desc := "()I" } : Jvm.MethodName)) ∈ lw_all := lw_g (lw_at lw_m8 182 rfl) rfl
theorem q1959 : (Jvm.Cond.methodLink "AntennaTunerLaw" (72 : Nat) ({ cls := "AntennaTunerModel", name := "settings", desc := "()I" } : Jvm.MethodName)) ∈ lw_all := lw_g (lw_at lw_m8 186 rfl) rfl
theorem q1963 : (Jvm.Cond.methodLink "AntennaTunerLaw" (77 : Nat) ({ cls := "AntennaTunerModel", name := "relaysTo", desc := "(III)I" } : Jvm.MethodName)) ∈ lw_all := lw_g (lw_at lw_m8 190 rfl) rfl
theorem q1970 : (Jvm.Cond.methodLink "AntennaTunerLaw" (82 : Nat) ({ cls := "AntennaTunerModel", name := "inputResistance", desc := "()J" } : Jvm.MethodName)) ∈ lw_all := lw_g (lw_at lw_m8 197 rfl) rfl
theorem q1995 : (Jvm.Cond.methodLink "AntennaTunerLaw" (86 : Nat) ({ cls := "AntennaTunerModel", name := "inputReactance", desc := "()J" } : Jvm.MethodName)) ∈ lw_all := lw_g (lw_at lw_m8 222 rfl) rfl
theorem q1999 : (Jvm.Cond.methodLink "AntennaTunerLaw" (90 : Nat) ({ cls := "AntennaTunerModel", name := "swr", desc := "()I" } : Jvm.MethodName)) ∈ lw_all := lw_g (lw_at lw_m8 226 rfl) rfl
theorem q2019 : (Jvm.Cond.methodLink "AntennaTunerLaw" (94 : Nat) ({ cls := "AntennaTunerModel", name := "swrAt", desc := "(I)I" } : Jvm.MethodName)) ∈ lw_all := lw_g (lw_at lw_m9 6 rfl) rfl
theorem q2023 : (Jvm.Cond.methodLink "AntennaTunerLaw" (98 : Nat) ({ cls := "AntennaTunerModel", name := "swrWith", desc := "(III)I" } : Jvm.MethodName)) ∈ lw_all := lw_g (lw_at lw_m9 10 rfl) rfl
theorem q2027 : (Jvm.Cond.methodLink "AntennaTunerLaw" (102 : Nat) ({ cls := "AntennaTunerModel", name := "efficiency", desc := "()I" } : Jvm.MethodName)) ∈ lw_all := lw_g (lw_at lw_m9 14 rfl) rfl
theorem q2036 : (Jvm.Cond.methodLink "AntennaTunerLaw" (106 : Nat) ({ cls := "AntennaTunerModel", name := "capacitorVoltage", desc := "()I" } : Jvm.MethodName)) ∈ lw_all := lw_g (lw_at lw_m9 23 rfl) rfl
theorem q2045 : (Jvm.Cond.methodLink "AntennaTunerLaw" (110 : Nat) ({ cls := "AntennaTunerModel", name := "greatestPower", desc := "()I" } : Jvm.MethodName)) ∈ lw_all := lw_g (lw_at lw_m9 32 rfl) rfl
theorem q2049 : (Jvm.Cond.methodLink "AntennaTunerLaw" (114 : Nat) ({ cls := "AntennaTunerModel", name := "highestMatched", desc := "()I" } : Jvm.MethodName)) ∈ lw_all := lw_g (lw_at lw_m9 36 rfl) rfl
theorem q2057 : (Jvm.Cond.methodLink "AntennaTunerLaw" (118 : Nat) ({ cls := "AntennaTunerModel", name := "lowestMatched", desc := "()I" } : Jvm.MethodName)) ∈ lw_all := lw_g (lw_at lw_m9 44 rfl) rfl
theorem q2061 : (Jvm.Cond.methodLink "AntennaTunerLaw" (122 : Nat) ({ cls := "AntennaTunerModel", name := "worstInBand", desc := "(I)I" } : Jvm.MethodName)) ∈ lw_all := lw_g (lw_at lw_m9 48 rfl) rfl
theorem q2065 : (Jvm.Cond.methodLink "AntennaTunerLaw" (126 : Nat) ({ cls := "AntennaTunerModel", name := "transmit", desc := "(I)I" } : Jvm.MethodName)) ∈ lw_all := lw_g (lw_at lw_m9 52 rfl) rfl
theorem q2079 : (Jvm.Cond.methodLink "AntennaTunerLaw" (130 : Nat) ({ cls := "AntennaTunerModel", name := "readingCount", desc := "()I" } : Jvm.MethodName)) ∈ lw_all := lw_g (lw_at lw_m9 66 rfl) rfl
theorem q2083 : (Jvm.Cond.methodLink "AntennaTunerLaw" (134 : Nat) ({ cls := "AntennaTunerModel", name := "reading", desc := "(I)I" } : Jvm.MethodName)) ∈ lw_all := lw_g (lw_at lw_m9 70 rfl) rfl
theorem q2087 : (Jvm.Cond.methodLink "AntennaTunerLaw" (138 : Nat) ({ cls := "AntennaTunerModel", name := "heat", desc := "()I" } : Jvm.MethodName)) ∈ lw_all := lw_g (lw_at lw_m9 74 rfl) rfl
theorem q2091 : (Jvm.Cond.methodLink "AntennaTunerLaw" (142 : Nat) ({ cls := "AntennaTunerModel", name := "arcsNoticed", desc := "(I)I" } : Jvm.MethodName)) ∈ lw_all := lw_g (lw_at lw_m9 78 rfl) rfl
theorem q2097 : (Jvm.Cond.methodLink "AntennaTunerLaw" (146 : Nat) ({ cls := "AntennaTunerModel", name := "tune", desc := "()I" } : Jvm.MethodName)) ∈ lw_all := lw_g (lw_at lw_m9 84 rfl) rfl
theorem q2120 : (Jvm.Cond.methodLink "AntennaTunerLaw" (150 : Nat) ({ cls := "AntennaTunerModel", name := "tuneCold", desc := "()I" } : Jvm.MethodName)) ∈ lw_all := lw_g (lw_at lw_m9 107 rfl) rfl
theorem q2124 : (Jvm.Cond.methodLink "AntennaTunerLaw" (154 : Nat) ({ cls := "AntennaTunerModel", name := "tuneFromMemory", desc := "()I" } : Jvm.MethodName)) ∈ lw_all := lw_g (lw_at lw_m9 111 rfl) rfl
theorem q2136 : (Jvm.Cond.methodLink "AntennaTunerLaw" (158 : Nat) ({ cls := "AntennaTunerModel", name := "evaluations", desc := "()I" } : Jvm.MethodName)) ∈ lw_all := lw_g (lw_at lw_m9 123 rfl) rfl
theorem q2140 : (Jvm.Cond.methodLink "AntennaTunerLaw" (162 : Nat) ({ cls := "AntennaTunerModel", name := "bestSettings", desc := "()I" } : Jvm.MethodName)) ∈ lw_all := lw_g (lw_at lw_m9 127 rfl) rfl
theorem q2145 : (Jvm.Cond.methodLink "AntennaTunerLaw" (166 : Nat) ({ cls := "AntennaTunerModel", name := "mostEfficient", desc := "()I" } : Jvm.MethodName)) ∈ lw_all := lw_g (lw_at lw_m9 132 rfl) rfl
theorem q2149 : (Jvm.Cond.methodLink "AntennaTunerLaw" (170 : Nat) ({ cls := "AntennaTunerModel", name := "failureDepth", desc := "()I" } : Jvm.MethodName)) ∈ lw_all := lw_g (lw_at lw_m9 136 rfl) rfl
theorem q2153 : (Jvm.Cond.methodLink "AntennaTunerLaw" (174 : Nat) ({ cls := "AntennaTunerModel", name := "failureKind", desc := "(I)I" } : Jvm.MethodName)) ∈ lw_all := lw_g (lw_at lw_m9 140 rfl) rfl
theorem q2157 : (Jvm.Cond.methodLink "AntennaTunerLaw" (178 : Nat) ({ cls := "AntennaTunerModel", name := "failureValue", desc := "(I)I" } : Jvm.MethodName)) ∈ lw_all := lw_g (lw_at lw_m9 144 rfl) rfl
theorem q2161 : (Jvm.Cond.methodLink "AntennaTunerLaw" (182 : Nat) ({ cls := "AntennaTunerModel", name := "store", desc := "()I" } : Jvm.MethodName)) ∈ lw_all := lw_g (lw_at lw_m9 148 rfl) rfl
theorem q2169 : (Jvm.Cond.methodLink "AntennaTunerLaw" (186 : Nat) ({ cls := "AntennaTunerModel", name := "recall", desc := "()I" } : Jvm.MethodName)) ∈ lw_all := lw_g (lw_at lw_m9 156 rfl) rfl
theorem q2173 : (Jvm.Cond.methodLink "AntennaTunerLaw" (190 : Nat) ({ cls := "AntennaTunerModel", name := "forget", desc := "(I)I" } : Jvm.MethodName)) ∈ lw_all := lw_g (lw_at lw_m9 160 rfl) rfl
theorem q2181 : (Jvm.Cond.methodLink "AntennaTunerLaw" (194 : Nat) ({ cls := "AntennaTunerModel", name := "memoryCount", desc := "()I" } : Jvm.MethodName)) ∈ lw_all := lw_g (lw_at lw_m9 168 rfl) rfl
theorem q2185 : (Jvm.Cond.methodLink "AntennaTunerLaw" (198 : Nat) ({ cls := "AntennaTunerModel", name := "memoryFrequency", desc := "(I)I" } : Jvm.MethodName)) ∈ lw_all := lw_g (lw_at lw_m9 172 rfl) rfl
theorem q2189 : (Jvm.Cond.methodLink "AntennaTunerLaw" (202 : Nat) ({ cls := "AntennaTunerModel", name := "memorySettings", desc := "(I)I" } : Jvm.MethodName)) ∈ lw_all := lw_g (lw_at lw_m9 176 rfl) rfl
theorem q2193 : (Jvm.Cond.methodLink "AntennaTunerLaw" (206 : Nat) ({ cls := "AntennaTunerModel", name := "memorySwr", desc := "(I)I" } : Jvm.MethodName)) ∈ lw_all := lw_g (lw_at lw_m9 180 rfl) rfl
theorem q1265 : (Jvm.Cond.interfaceMethod "AntennaTuner$Move" "AntennaTuner$Move" "from" "(LAntennaTuner$Setting;I)LAntennaTuner$Setting;") ∈ lw_tbl := lw_at lw_m5 212 rfl
set_option maxRecDepth 100000
theorem q1266 : (Jvm.Cond.declares ({ cls := "AntennaTuner$Move", name := "from", desc := "(LAntennaTuner$Setting;I)LAntennaTuner$Setting;" } : Jvm.MethodName)) ∈ lw_tbl := lw_at lw_m5 213 rfl
theorem q2210 : (Jvm.Cond.castable "AntennaTuner$Move" "java/lang/Object") ∈ lw_tbl := lw_at lw_m9 197 rfl
theorem q1109 : (Jvm.Cond.interfaceMethod "AntennaTuner$Wiring" "AntennaTuner$Wiring" "apply" "(LAntennaTuner$Circuit;)V") ∈ lw_tbl := lw_at lw_m5 56 rfl
set_option maxRecDepth 100000
theorem q1110 : (Jvm.Cond.declares ({ cls := "AntennaTuner$Wiring", name := "apply", desc := "(LAntennaTuner$Circuit;)V" } : Jvm.MethodName)) ∈ lw_tbl := lw_at lw_m5 57 rfl
theorem q2209 : (Jvm.Cond.castable "AntennaTuner$Wiring" "java/lang/Object") ∈ lw_tbl := lw_at lw_m9 196 rfl
theorem q521 : (Jvm.Cond.sameMethod "[B" "java/lang/Object" "clone" "()Ljava/lang/Object;") ∈ lw_all := lw_g (lw_at lw_m2 188 rfl) rfl
set_option maxRecDepth 100000
theorem q524 : (Jvm.Cond.selects "[B" ({ cls := "[B", name := "clone", desc := "()Ljava/lang/Object;" } : Jvm.MethodName) ({ cls := "java/lang/Object", name := "clone", desc := "()Ljava/lang/Object;" } : Jvm.MethodName)) ∈ lw_all := lw_g (lw_at lw_m2 191 rfl) rfl
theorem q525 : (Jvm.Cond.castable "[B" "java/lang/Cloneable") ∈ lw_tbl := lw_at lw_m2 192 rfl
theorem q2238 : (Jvm.Cond.castable "[B" "java/lang/Object") ∈ lw_tbl := lw_at lw_m9 225 rfl
theorem q928 : (Jvm.Cond.sameMethod "[I" "java/lang/Object" "clone" "()Ljava/lang/Object;") ∈ lw_all := lw_g (lw_at lw_m4 115 rfl) rfl
set_option maxRecDepth 100000
theorem q929 : (Jvm.Cond.selects "[I" ({ cls := "[I", name := "clone", desc := "()Ljava/lang/Object;" } : Jvm.MethodName) ({ cls := "java/lang/Object", name := "clone", desc := "()Ljava/lang/Object;" } : Jvm.MethodName)) ∈ lw_all := lw_g (lw_at lw_m4 116 rfl) rfl
theorem q930 : (Jvm.Cond.castable "[I" "java/lang/Cloneable") ∈ lw_tbl := lw_at lw_m4 117 rfl
theorem q2240 : (Jvm.Cond.castable "[I" "java/lang/Object") ∈ lw_tbl := lw_at lw_m9 227 rfl
theorem q2241 : (Jvm.Cond.castable "[J" "java/lang/Object") ∈ lw_tbl := lw_at lw_m9 228 rfl
set_option maxRecDepth 100000
theorem q2237 : (Jvm.Cond.castable "[LAntennaTuner$Move;" "java/lang/Object") ∈ lw_tbl := lw_at lw_m9 224 rfl
set_option maxRecDepth 100000
theorem q2236 : (Jvm.Cond.castable "[LAntennaTuner$Wiring;" "java/lang/Object") ∈ lw_tbl := lw_at lw_m9 223 rfl
set_option maxRecDepth 100000
theorem q2233 : (Jvm.Cond.sameMethod "[Ljava/lang/Object;" "java/lang/Object" "getClass" "()Ljava/lang/Class;") ∈ lw_all := lw_g (lw_at lw_m9 220 rfl) rfl
set_option maxRecDepth 100000
theorem q2234 : (Jvm.Cond.selects "[Ljava/lang/Object;" ({ cls := "java/lang/Object", name := "getClass", desc := "()Ljava/lang/Class;" } : Jvm.MethodName) ({ cls := "java/lang/Object", name := "getClass", desc := "()Ljava/lang/Class;" } : Jvm.MethodName)) ∈ lw_all := lw_g (lw_at lw_m9 221 rfl) rfl
theorem q2239 : (Jvm.Cond.castable "[Ljava/lang/Object;" "java/lang/Object") ∈ lw_tbl := lw_at lw_m9 226 rfl
theorem q933 : (Jvm.Cond.sameMethod "[Z" "java/lang/Object" "clone" "()Ljava/lang/Object;") ∈ lw_all := lw_g (lw_at lw_m4 120 rfl) rfl
set_option maxRecDepth 100000
theorem q934 : (Jvm.Cond.selects "[Z" ({ cls := "[Z", name := "clone", desc := "()Ljava/lang/Object;" } : Jvm.MethodName) ({ cls := "java/lang/Object", name := "clone", desc := "()Ljava/lang/Object;" } : Jvm.MethodName)) ∈ lw_all := lw_g (lw_at lw_m4 121 rfl) rfl
theorem q935 : (Jvm.Cond.castable "[Z" "java/lang/Cloneable") ∈ lw_tbl := lw_at lw_m4 122 rfl
theorem q2242 : (Jvm.Cond.castable "[Z" "java/lang/Object") ∈ lw_tbl := lw_at lw_m9 229 rfl
theorem q110 : (Jvm.Cond.initialized "java/lang/System") ∈ lw_all := lw_g (lw_at lw_m1 17 rfl) rfl
set_option maxRecDepth 100000
theorem q531 : (Jvm.Cond.static ({ cls := "java/lang/System", name := "arraycopy", desc := "(Ljava/lang/Object;ILjava/lang/Object;II)V" } : Jvm.MethodName)) ∈ lw_all := lw_g (lw_at lw_m2 198 rfl) rfl
theorem q532 : (Jvm.Cond.native ({ cls := "java/lang/System", name := "arraycopy", desc := "(Ljava/lang/Object;ILjava/lang/Object;II)V" } : Jvm.MethodName)) ∈ lw_all := lw_g (lw_at lw_m2 199 rfl) rfl
theorem q139 : (Jvm.Cond.arrayOver (Jvm.ClassFile.FieldType.object "AntennaTuner$Wiring")) ∈ lw_tbl := lw_at lw_m1 46 rfl
set_option maxRecDepth 100000
theorem q175 : (Jvm.Cond.arrayOver (Jvm.ClassFile.FieldType.object "AntennaTuner$Move")) ∈ lw_tbl := lw_at lw_m1 82 rfl
theorem q199 : (Jvm.Cond.arrayClass Jvm.ClassFile.FieldType.byte) ∈ lw_all := lw_g (lw_at lw_m1 106 rfl) rfl
theorem q266 : (Jvm.Cond.arrayOver (Jvm.ClassFile.FieldType.object "java/lang/Object")) ∈ lw_tbl := lw_at lw_m1 173 rfl
theorem q411 : (Jvm.Cond.arrayClass Jvm.ClassFile.FieldType.int) ∈ lw_all := lw_g (lw_at lw_m2 78 rfl) rfl
theorem q412 : (Jvm.Cond.arrayClass Jvm.ClassFile.FieldType.long) ∈ lw_all := lw_g (lw_at lw_m2 79 rfl) rfl
theorem q841 : (Jvm.Cond.arrayClass Jvm.ClassFile.FieldType.boolean) ∈ lw_all := lw_g (lw_at lw_m4 28 rfl) rfl
/-! AntennaTuner -/
set_option maxRecDepth 100000
def RX0 : String := "AntennaTuner"
def TX0 : u_T := fun k => match k with
  | 0 => ("AntennaTuner", "buffer", "[B", true)
  | 1 => ("AntennaTuner", "used", "I", false)
  | 2 => ("AntennaTuner", "errorPosition", "I", false)
  | 3 => ("AntennaTuner", "wirings", "[LAntennaTuner$Wiring;", true)
  | 4 => ("AntennaTuner", "moves", "[LAntennaTuner$Move;", true)
  | 5 => ("AntennaTuner", "circuit", "LAntennaTuner$Circuit;", true)
  | 6 => ("AntennaTuner", "failure", "LAntennaTuner$TunerFailure;", false)
  | 7 => ("AntennaTuner", "tuner", "LAntennaTuner$Tuner;", false)
  | 8 => ("AntennaTuner", "state", "LAntennaTuner$State;", false)
  | 9 => ("AntennaTuner", "history", "Ljava/util/ArrayDeque;", true)
  | _ => ("AntennaTuner", "evaluations", "I", false)
def tyX0 : Nat → FieldType := fun k => match k with
  | 0 => .array .byte
  | 1 => .int
  | 2 => .int
  | 3 => .array (.object "AntennaTuner$Wiring")
  | 4 => .array (.object "AntennaTuner$Move")
  | 5 => .object "AntennaTuner$Circuit"
  | 6 => .object "AntennaTuner$TunerFailure"
  | 7 => .object "AntennaTuner$Tuner"
  | 8 => .object "AntennaTuner$State"
  | 9 => .object "java/util/ArrayDeque"
  | _ => .int
abbrev wsX00 : List Cond := u_ws RX0 TX0 11
theorem nmX0 : ∀ a, a < 11 → ∀ b, b < 11 → a ≠ b → (TX0 a).2.1 ≠ (TX0 b).2.1 := by decide +kernel
theorem tyX0_ok : ∀ k, k < 11 → parseFieldDescriptor (TX0 k).2.2.1 = some (tyX0 k) := by decide +kernel
abbrev cX0_init : ByteArray := prog_1_method_5_code
def yX0_init : MethodName := ⟨RX0, "<init>", "()V"⟩
def dkwX0_init_4 : List UInt8 := [183, 0, 86, 181, 0, 89, 42, 187, 0, 93, 89, 183, 0, 95, 181, 0, 96, 177]
abbrev dktX0_init_4 : List UInt8 := dkwX0_init_4 ++ []
def dkwX0_init_3 : List UInt8 := [6, 186, 0, 80, 0, 0, 83, 89, 7, 186, 0, 81, 0, 0, 83, 181, 0, 82, 42, 187, 0, 8, 89, 42]
abbrev dktX0_init_3 : List UInt8 := dkwX0_init_3 ++ dktX0_init_4
def dkwX0_init_2 : List UInt8 := [3, 186, 0, 74, 0, 0, 83, 89, 4, 186, 0, 78, 0, 0, 83, 89, 5, 186, 0, 79, 0, 0, 83, 89]
abbrev dktX0_init_2 : List UInt8 := dkwX0_init_2 ++ dktX0_init_3
def dkwX0_init_1 : List UInt8 := [3, 186, 0, 63, 0, 0, 83, 89, 4, 186, 0, 67, 0, 0, 83, 181, 0, 68, 42, 8, 189, 0, 72, 89]
abbrev dktX0_init_1 : List UInt8 := dkwX0_init_1 ++ dktX0_init_2
def dkwX0_init_0 : List UInt8 := [42, 183, 0, 45, 42, 17, 1, 244, 188, 8, 181, 0, 53, 42, 2, 181, 0, 57, 42, 5, 189, 0, 61, 89]
abbrev dktX0_init_0 : List UInt8 := dkwX0_init_0 ++ dktX0_init_1
theorem dksX0_init_0 : cX0_init.data.toList.drop 0 = dktX0_init_0 := by decide +kernel
theorem dksX0_init_1 : cX0_init.data.toList.drop 24 = dktX0_init_1 := dk_seg dksX0_init_0 24 rfl rfl
theorem dksX0_init_2 : cX0_init.data.toList.drop 48 = dktX0_init_2 := dk_seg dksX0_init_1 24 rfl rfl
theorem dksX0_init_3 : cX0_init.data.toList.drop 72 = dktX0_init_3 := dk_seg dksX0_init_2 24 rfl rfl
theorem dksX0_init_4 : cX0_init.data.toList.drop 96 = dktX0_init_4 := dk_seg dksX0_init_3 24 rfl rfl
theorem dX0_init_0 : decode cX0_init 0 = .ok (.aload_n 0, 1) := dk_42 (dk_at dksX0_init_0 0 rfl rfl)
theorem dX0_init_1 : decode cX0_init 1 = .ok (.invokespecial 45, 3) := dk_183 0 45 (dk_at dksX0_init_0 1 rfl rfl)
theorem dX0_init_4 : decode cX0_init 4 = .ok (.aload_n 0, 1) := dk_42 (dk_at dksX0_init_0 4 rfl rfl)
theorem dX0_init_5 : decode cX0_init 5 = .ok (.sipush 500, 3) := dk_17 1 244 (dk_at dksX0_init_0 5 rfl rfl)
theorem dX0_init_8 : decode cX0_init 8 = .ok (.newarray .byte, 2) := dk_188_8 (dk_at dksX0_init_0 8 rfl rfl)
theorem dX0_init_10 : decode cX0_init 10 = .ok (.putfield 53, 3) := dk_181 0 53 (dk_at dksX0_init_0 10 rfl rfl)
theorem dX0_init_13 : decode cX0_init 13 = .ok (.aload_n 0, 1) := dk_42 (dk_at dksX0_init_0 13 rfl rfl)
theorem dX0_init_14 : decode cX0_init 14 = .ok (.iconst (-1), 1) := dk_2 (dk_at dksX0_init_0 14 rfl rfl)
theorem dX0_init_15 : decode cX0_init 15 = .ok (.putfield 57, 3) := dk_181 0 57 (dk_at dksX0_init_0 15 rfl rfl)
theorem dX0_init_18 : decode cX0_init 18 = .ok (.aload_n 0, 1) := dk_42 (dk_at dksX0_init_0 18 rfl rfl)
theorem dX0_init_19 : decode cX0_init 19 = .ok (.iconst 2, 1) := dk_5 (dk_at dksX0_init_0 19 rfl rfl)
theorem dX0_init_20 : decode cX0_init 20 = .ok (.anewarray 61, 3) := dk_189 0 61 (dk_at dksX0_init_0 20 rfl rfl)
theorem dX0_init_23 : decode cX0_init 23 = .ok (.dup, 1) := dk_89 (dk_at dksX0_init_0 23 rfl rfl)
theorem dX0_init_24 : decode cX0_init 24 = .ok (.iconst 0, 1) := dk_3 (dk_at dksX0_init_1 0 rfl rfl)
theorem dX0_init_25 : decode cX0_init 25 = .ok (.invokedynamic 63, 5) := by decide +kernel
theorem dX0_init_30 : decode cX0_init 30 = .ok (.aastore, 1) := dk_83 (dk_at dksX0_init_1 6 rfl rfl)
theorem dX0_init_31 : decode cX0_init 31 = .ok (.dup, 1) := dk_89 (dk_at dksX0_init_1 7 rfl rfl)
theorem dX0_init_32 : decode cX0_init 32 = .ok (.iconst 1, 1) := dk_4 (dk_at dksX0_init_1 8 rfl rfl)
theorem dX0_init_33 : decode cX0_init 33 = .ok (.invokedynamic 67, 5) := by decide +kernel
theorem dX0_init_38 : decode cX0_init 38 = .ok (.aastore, 1) := dk_83 (dk_at dksX0_init_1 14 rfl rfl)
theorem dX0_init_39 : decode cX0_init 39 = .ok (.putfield 68, 3) := dk_181 0 68 (dk_at dksX0_init_1 15 rfl rfl)
theorem dX0_init_42 : decode cX0_init 42 = .ok (.aload_n 0, 1) := dk_42 (dk_at dksX0_init_1 18 rfl rfl)
theorem dX0_init_43 : decode cX0_init 43 = .ok (.iconst 5, 1) := dk_8 (dk_at dksX0_init_1 19 rfl rfl)
theorem dX0_init_44 : decode cX0_init 44 = .ok (.anewarray 72, 3) := dk_189 0 72 (dk_at dksX0_init_1 20 rfl rfl)
theorem dX0_init_47 : decode cX0_init 47 = .ok (.dup, 1) := dk_89 (dk_at dksX0_init_1 23 rfl rfl)
theorem dX0_init_48 : decode cX0_init 48 = .ok (.iconst 0, 1) := dk_3 (dk_at dksX0_init_2 0 rfl rfl)
theorem dX0_init_49 : decode cX0_init 49 = .ok (.invokedynamic 74, 5) := by decide +kernel
theorem dX0_init_54 : decode cX0_init 54 = .ok (.aastore, 1) := dk_83 (dk_at dksX0_init_2 6 rfl rfl)
theorem dX0_init_55 : decode cX0_init 55 = .ok (.dup, 1) := dk_89 (dk_at dksX0_init_2 7 rfl rfl)
theorem dX0_init_56 : decode cX0_init 56 = .ok (.iconst 1, 1) := dk_4 (dk_at dksX0_init_2 8 rfl rfl)
theorem dX0_init_57 : decode cX0_init 57 = .ok (.invokedynamic 78, 5) := by decide +kernel
theorem dX0_init_62 : decode cX0_init 62 = .ok (.aastore, 1) := dk_83 (dk_at dksX0_init_2 14 rfl rfl)
theorem dX0_init_63 : decode cX0_init 63 = .ok (.dup, 1) := dk_89 (dk_at dksX0_init_2 15 rfl rfl)
theorem dX0_init_64 : decode cX0_init 64 = .ok (.iconst 2, 1) := dk_5 (dk_at dksX0_init_2 16 rfl rfl)
theorem dX0_init_65 : decode cX0_init 65 = .ok (.invokedynamic 79, 5) := by decide +kernel
theorem dX0_init_70 : decode cX0_init 70 = .ok (.aastore, 1) := dk_83 (dk_at dksX0_init_2 22 rfl rfl)
theorem dX0_init_71 : decode cX0_init 71 = .ok (.dup, 1) := dk_89 (dk_at dksX0_init_2 23 rfl rfl)
theorem dX0_init_72 : decode cX0_init 72 = .ok (.iconst 3, 1) := dk_6 (dk_at dksX0_init_3 0 rfl rfl)
theorem dX0_init_73 : decode cX0_init 73 = .ok (.invokedynamic 80, 5) := by decide +kernel
theorem dX0_init_78 : decode cX0_init 78 = .ok (.aastore, 1) := dk_83 (dk_at dksX0_init_3 6 rfl rfl)
theorem dX0_init_79 : decode cX0_init 79 = .ok (.dup, 1) := dk_89 (dk_at dksX0_init_3 7 rfl rfl)
theorem dX0_init_80 : decode cX0_init 80 = .ok (.iconst 4, 1) := dk_7 (dk_at dksX0_init_3 8 rfl rfl)
theorem dX0_init_81 : decode cX0_init 81 = .ok (.invokedynamic 81, 5) := by decide +kernel
theorem dX0_init_86 : decode cX0_init 86 = .ok (.aastore, 1) := dk_83 (dk_at dksX0_init_3 14 rfl rfl)
theorem dX0_init_87 : decode cX0_init 87 = .ok (.putfield 82, 3) := dk_181 0 82 (dk_at dksX0_init_3 15 rfl rfl)
theorem dX0_init_90 : decode cX0_init 90 = .ok (.aload_n 0, 1) := dk_42 (dk_at dksX0_init_3 18 rfl rfl)
theorem dX0_init_91 : decode cX0_init 91 = .ok (.new 8, 3) := dk_187 0 8 (dk_at dksX0_init_3 19 rfl rfl)
theorem dX0_init_94 : decode cX0_init 94 = .ok (.dup, 1) := dk_89 (dk_at dksX0_init_3 22 rfl rfl)
theorem dX0_init_95 : decode cX0_init 95 = .ok (.aload_n 0, 1) := dk_42 (dk_at dksX0_init_3 23 rfl rfl)
theorem dX0_init_96 : decode cX0_init 96 = .ok (.invokespecial 86, 3) := dk_183 0 86 (dk_at dksX0_init_4 0 rfl rfl)
theorem dX0_init_99 : decode cX0_init 99 = .ok (.putfield 89, 3) := dk_181 0 89 (dk_at dksX0_init_4 3 rfl rfl)
theorem dX0_init_102 : decode cX0_init 102 = .ok (.aload_n 0, 1) := dk_42 (dk_at dksX0_init_4 6 rfl rfl)
theorem dX0_init_103 : decode cX0_init 103 = .ok (.new 93, 3) := dk_187 0 93 (dk_at dksX0_init_4 7 rfl rfl)
theorem dX0_init_106 : decode cX0_init 106 = .ok (.dup, 1) := dk_89 (dk_at dksX0_init_4 10 rfl rfl)
theorem dX0_init_107 : decode cX0_init 107 = .ok (.invokespecial 95, 3) := dk_183 0 95 (dk_at dksX0_init_4 11 rfl rfl)
theorem dX0_init_110 : decode cX0_init 110 = .ok (.putfield 96, 3) := dk_181 0 96 (dk_at dksX0_init_4 14 rfl rfl)
theorem dX0_init_113 : decode cX0_init 113 = .ok (.return_, 1) := dk_177 (dk_at dksX0_init_4 17 rfl rfl)
abbrev cX0_capacitorFirst : ByteArray := prog_1_method_3_code
def yX0_capacitorFirst : MethodName := ⟨RX0, "capacitorFirst", "(LAntennaTuner$Circuit;)V"⟩
def dkwX0_capacitorFirst_2 : List UInt8 := [177]
abbrev dktX0_capacitorFirst_2 : List UInt8 := dkwX0_capacitorFirst_2 ++ []
def dkwX0_capacitorFirst_1 : List UInt8 := [180, 0, 7, 180, 0, 29, 182, 0, 32, 42, 180, 0, 7, 42, 180, 0, 36, 42, 180, 0, 39, 182, 0, 42]
abbrev dktX0_capacitorFirst_1 : List UInt8 := dkwX0_capacitorFirst_1 ++ dktX0_capacitorFirst_2
def dkwX0_capacitorFirst_0 : List UInt8 := [42, 180, 0, 7, 42, 180, 0, 13, 182, 0, 17, 42, 180, 0, 23, 42, 180, 0, 7, 180, 0, 26, 42]
abbrev dktX0_capacitorFirst_0 : List UInt8 := dkwX0_capacitorFirst_0 ++ dktX0_capacitorFirst_1
theorem dksX0_capacitorFirst_0 : cX0_capacitorFirst.data.toList.drop 0 = dktX0_capacitorFirst_0 := by decide +kernel
theorem dksX0_capacitorFirst_1 : cX0_capacitorFirst.data.toList.drop 23 = dktX0_capacitorFirst_1 := dk_seg dksX0_capacitorFirst_0 23 rfl rfl
theorem dksX0_capacitorFirst_2 : cX0_capacitorFirst.data.toList.drop 47 = dktX0_capacitorFirst_2 := dk_seg dksX0_capacitorFirst_1 24 rfl rfl
theorem dX0_capacitorFirst_0 : decode cX0_capacitorFirst 0 = .ok (.aload_n 0, 1) := dk_42 (dk_at dksX0_capacitorFirst_0 0 rfl rfl)
theorem dX0_capacitorFirst_1 : decode cX0_capacitorFirst 1 = .ok (.getfield 7, 3) := dk_180 0 7 (dk_at dksX0_capacitorFirst_0 1 rfl rfl)
theorem dX0_capacitorFirst_4 : decode cX0_capacitorFirst 4 = .ok (.aload_n 0, 1) := dk_42 (dk_at dksX0_capacitorFirst_0 4 rfl rfl)
theorem dX0_capacitorFirst_5 : decode cX0_capacitorFirst 5 = .ok (.getfield 13, 3) := dk_180 0 13 (dk_at dksX0_capacitorFirst_0 5 rfl rfl)
theorem dX0_capacitorFirst_8 : decode cX0_capacitorFirst 8 = .ok (.invokevirtual 17, 3) := dk_182 0 17 (dk_at dksX0_capacitorFirst_0 8 rfl rfl)
theorem dX0_capacitorFirst_11 : decode cX0_capacitorFirst 11 = .ok (.aload_n 0, 1) := dk_42 (dk_at dksX0_capacitorFirst_0 11 rfl rfl)
theorem dX0_capacitorFirst_12 : decode cX0_capacitorFirst 12 = .ok (.getfield 23, 3) := dk_180 0 23 (dk_at dksX0_capacitorFirst_0 12 rfl rfl)
theorem dX0_capacitorFirst_15 : decode cX0_capacitorFirst 15 = .ok (.aload_n 0, 1) := dk_42 (dk_at dksX0_capacitorFirst_0 15 rfl rfl)
theorem dX0_capacitorFirst_16 : decode cX0_capacitorFirst 16 = .ok (.getfield 7, 3) := dk_180 0 7 (dk_at dksX0_capacitorFirst_0 16 rfl rfl)
theorem dX0_capacitorFirst_19 : decode cX0_capacitorFirst 19 = .ok (.getfield 26, 3) := dk_180 0 26 (dk_at dksX0_capacitorFirst_0 19 rfl rfl)
theorem dX0_capacitorFirst_22 : decode cX0_capacitorFirst 22 = .ok (.aload_n 0, 1) := dk_42 (dk_at dksX0_capacitorFirst_0 22 rfl rfl)
theorem dX0_capacitorFirst_23 : decode cX0_capacitorFirst 23 = .ok (.getfield 7, 3) := dk_180 0 7 (dk_at dksX0_capacitorFirst_1 0 rfl rfl)
theorem dX0_capacitorFirst_26 : decode cX0_capacitorFirst 26 = .ok (.getfield 29, 3) := dk_180 0 29 (dk_at dksX0_capacitorFirst_1 3 rfl rfl)
theorem dX0_capacitorFirst_29 : decode cX0_capacitorFirst 29 = .ok (.invokevirtual 32, 3) := dk_182 0 32 (dk_at dksX0_capacitorFirst_1 6 rfl rfl)
theorem dX0_capacitorFirst_32 : decode cX0_capacitorFirst 32 = .ok (.aload_n 0, 1) := dk_42 (dk_at dksX0_capacitorFirst_1 9 rfl rfl)
theorem dX0_capacitorFirst_33 : decode cX0_capacitorFirst 33 = .ok (.getfield 7, 3) := dk_180 0 7 (dk_at dksX0_capacitorFirst_1 10 rfl rfl)
theorem dX0_capacitorFirst_36 : decode cX0_capacitorFirst 36 = .ok (.aload_n 0, 1) := dk_42 (dk_at dksX0_capacitorFirst_1 13 rfl rfl)
theorem dX0_capacitorFirst_37 : decode cX0_capacitorFirst 37 = .ok (.getfield 36, 3) := dk_180 0 36 (dk_at dksX0_capacitorFirst_1 14 rfl rfl)
theorem dX0_capacitorFirst_40 : decode cX0_capacitorFirst 40 = .ok (.aload_n 0, 1) := dk_42 (dk_at dksX0_capacitorFirst_1 17 rfl rfl)
theorem dX0_capacitorFirst_41 : decode cX0_capacitorFirst 41 = .ok (.getfield 39, 3) := dk_180 0 39 (dk_at dksX0_capacitorFirst_1 18 rfl rfl)
theorem dX0_capacitorFirst_44 : decode cX0_capacitorFirst 44 = .ok (.invokevirtual 42, 3) := dk_182 0 42 (dk_at dksX0_capacitorFirst_1 21 rfl rfl)
theorem dX0_capacitorFirst_47 : decode cX0_capacitorFirst 47 = .ok (.return_, 1) := dk_177 (dk_at dksX0_capacitorFirst_2 0 rfl rfl)
abbrev cX0_coilFirst : ByteArray := prog_1_method_4_code
def yX0_coilFirst : MethodName := ⟨RX0, "coilFirst", "(LAntennaTuner$Circuit;)V"⟩
def dkwX0_coilFirst_2 : List UInt8 := [182, 0, 17, 177]
abbrev dktX0_coilFirst_2 : List UInt8 := dkwX0_coilFirst_2 ++ []
def dkwX0_coilFirst_1 : List UInt8 := [180, 0, 7, 42, 180, 0, 36, 42, 180, 0, 39, 182, 0, 42, 42, 180, 0, 7, 42, 180, 0, 13]
abbrev dktX0_coilFirst_1 : List UInt8 := dkwX0_coilFirst_1 ++ dktX0_coilFirst_2
def dkwX0_coilFirst_0 : List UInt8 := [42, 180, 0, 23, 42, 180, 0, 7, 180, 0, 26, 42, 180, 0, 7, 180, 0, 29, 182, 0, 32, 42]
abbrev dktX0_coilFirst_0 : List UInt8 := dkwX0_coilFirst_0 ++ dktX0_coilFirst_1
theorem dksX0_coilFirst_0 : cX0_coilFirst.data.toList.drop 0 = dktX0_coilFirst_0 := by decide +kernel
theorem dksX0_coilFirst_1 : cX0_coilFirst.data.toList.drop 22 = dktX0_coilFirst_1 := dk_seg dksX0_coilFirst_0 22 rfl rfl
theorem dksX0_coilFirst_2 : cX0_coilFirst.data.toList.drop 44 = dktX0_coilFirst_2 := dk_seg dksX0_coilFirst_1 22 rfl rfl
theorem dX0_coilFirst_0 : decode cX0_coilFirst 0 = .ok (.aload_n 0, 1) := dk_42 (dk_at dksX0_coilFirst_0 0 rfl rfl)
theorem dX0_coilFirst_1 : decode cX0_coilFirst 1 = .ok (.getfield 23, 3) := dk_180 0 23 (dk_at dksX0_coilFirst_0 1 rfl rfl)
theorem dX0_coilFirst_4 : decode cX0_coilFirst 4 = .ok (.aload_n 0, 1) := dk_42 (dk_at dksX0_coilFirst_0 4 rfl rfl)
theorem dX0_coilFirst_5 : decode cX0_coilFirst 5 = .ok (.getfield 7, 3) := dk_180 0 7 (dk_at dksX0_coilFirst_0 5 rfl rfl)
theorem dX0_coilFirst_8 : decode cX0_coilFirst 8 = .ok (.getfield 26, 3) := dk_180 0 26 (dk_at dksX0_coilFirst_0 8 rfl rfl)
theorem dX0_coilFirst_11 : decode cX0_coilFirst 11 = .ok (.aload_n 0, 1) := dk_42 (dk_at dksX0_coilFirst_0 11 rfl rfl)
theorem dX0_coilFirst_12 : decode cX0_coilFirst 12 = .ok (.getfield 7, 3) := dk_180 0 7 (dk_at dksX0_coilFirst_0 12 rfl rfl)
theorem dX0_coilFirst_15 : decode cX0_coilFirst 15 = .ok (.getfield 29, 3) := dk_180 0 29 (dk_at dksX0_coilFirst_0 15 rfl rfl)
theorem dX0_coilFirst_18 : decode cX0_coilFirst 18 = .ok (.invokevirtual 32, 3) := dk_182 0 32 (dk_at dksX0_coilFirst_0 18 rfl rfl)
theorem dX0_coilFirst_21 : decode cX0_coilFirst 21 = .ok (.aload_n 0, 1) := dk_42 (dk_at dksX0_coilFirst_0 21 rfl rfl)
theorem dX0_coilFirst_22 : decode cX0_coilFirst 22 = .ok (.getfield 7, 3) := dk_180 0 7 (dk_at dksX0_coilFirst_1 0 rfl rfl)
theorem dX0_coilFirst_25 : decode cX0_coilFirst 25 = .ok (.aload_n 0, 1) := dk_42 (dk_at dksX0_coilFirst_1 3 rfl rfl)
theorem dX0_coilFirst_26 : decode cX0_coilFirst 26 = .ok (.getfield 36, 3) := dk_180 0 36 (dk_at dksX0_coilFirst_1 4 rfl rfl)
theorem dX0_coilFirst_29 : decode cX0_coilFirst 29 = .ok (.aload_n 0, 1) := dk_42 (dk_at dksX0_coilFirst_1 7 rfl rfl)
theorem dX0_coilFirst_30 : decode cX0_coilFirst 30 = .ok (.getfield 39, 3) := dk_180 0 39 (dk_at dksX0_coilFirst_1 8 rfl rfl)
theorem dX0_coilFirst_33 : decode cX0_coilFirst 33 = .ok (.invokevirtual 42, 3) := dk_182 0 42 (dk_at dksX0_coilFirst_1 11 rfl rfl)
theorem dX0_coilFirst_36 : decode cX0_coilFirst 36 = .ok (.aload_n 0, 1) := dk_42 (dk_at dksX0_coilFirst_1 14 rfl rfl)
theorem dX0_coilFirst_37 : decode cX0_coilFirst 37 = .ok (.getfield 7, 3) := dk_180 0 7 (dk_at dksX0_coilFirst_1 15 rfl rfl)
theorem dX0_coilFirst_40 : decode cX0_coilFirst 40 = .ok (.aload_n 0, 1) := dk_42 (dk_at dksX0_coilFirst_1 18 rfl rfl)
theorem dX0_coilFirst_41 : decode cX0_coilFirst 41 = .ok (.getfield 13, 3) := dk_180 0 13 (dk_at dksX0_coilFirst_1 19 rfl rfl)
theorem dX0_coilFirst_44 : decode cX0_coilFirst 44 = .ok (.invokevirtual 17, 3) := dk_182 0 17 (dk_at dksX0_coilFirst_2 0 rfl rfl)
theorem dX0_coilFirst_47 : decode cX0_coilFirst 47 = .ok (.return_, 1) := dk_177 (dk_at dksX0_coilFirst_2 3 rfl rfl)
abbrev cX0_lambda_new_0 : ByteArray := prog_1_method_78_code
def yX0_lambda_new_0 : MethodName := ⟨RX0, "lambda$new$0", "(LAntennaTuner$Setting;I)LAntennaTuner$Setting;"⟩
def dkwX0_lambda_new_0_0 : List UInt8 := [187, 0, 206, 89, 42, 180, 0, 232, 42, 180, 0, 220, 27, 96, 42, 180, 0, 222, 183, 0, 225, 176]
abbrev dktX0_lambda_new_0_0 : List UInt8 := dkwX0_lambda_new_0_0 ++ []
theorem dksX0_lambda_new_0_0 : cX0_lambda_new_0.data.toList.drop 0 = dktX0_lambda_new_0_0 := by decide +kernel
theorem dX0_lambda_new_0_0 : decode cX0_lambda_new_0 0 = .ok (.new 206, 3) := dk_187 0 206 (dk_at dksX0_lambda_new_0_0 0 rfl rfl)
theorem dX0_lambda_new_0_3 : decode cX0_lambda_new_0 3 = .ok (.dup, 1) := dk_89 (dk_at dksX0_lambda_new_0_0 3 rfl rfl)
theorem dX0_lambda_new_0_4 : decode cX0_lambda_new_0 4 = .ok (.aload_n 0, 1) := dk_42 (dk_at dksX0_lambda_new_0_0 4 rfl rfl)
theorem dX0_lambda_new_0_5 : decode cX0_lambda_new_0 5 = .ok (.getfield 232, 3) := dk_180 0 232 (dk_at dksX0_lambda_new_0_0 5 rfl rfl)
theorem dX0_lambda_new_0_8 : decode cX0_lambda_new_0 8 = .ok (.aload_n 0, 1) := dk_42 (dk_at dksX0_lambda_new_0_0 8 rfl rfl)
theorem dX0_lambda_new_0_9 : decode cX0_lambda_new_0 9 = .ok (.getfield 220, 3) := dk_180 0 220 (dk_at dksX0_lambda_new_0_0 9 rfl rfl)
theorem dX0_lambda_new_0_12 : decode cX0_lambda_new_0 12 = .ok (.iload_n 1, 1) := dk_27 (dk_at dksX0_lambda_new_0_0 12 rfl rfl)
theorem dX0_lambda_new_0_13 : decode cX0_lambda_new_0 13 = .ok (.iadd, 1) := dk_96 (dk_at dksX0_lambda_new_0_0 13 rfl rfl)
theorem dX0_lambda_new_0_14 : decode cX0_lambda_new_0 14 = .ok (.aload_n 0, 1) := dk_42 (dk_at dksX0_lambda_new_0_0 14 rfl rfl)
theorem dX0_lambda_new_0_15 : decode cX0_lambda_new_0 15 = .ok (.getfield 222, 3) := dk_180 0 222 (dk_at dksX0_lambda_new_0_0 15 rfl rfl)
theorem dX0_lambda_new_0_18 : decode cX0_lambda_new_0 18 = .ok (.invokespecial 225, 3) := dk_183 0 225 (dk_at dksX0_lambda_new_0_0 18 rfl rfl)
theorem dX0_lambda_new_0_21 : decode cX0_lambda_new_0 21 = .ok (.areturn, 1) := dk_176 (dk_at dksX0_lambda_new_0_0 21 rfl rfl)
abbrev cX0_lambda_new_1 : ByteArray := prog_1_method_77_code
def yX0_lambda_new_1 : MethodName := ⟨RX0, "lambda$new$1", "(LAntennaTuner$Setting;I)LAntennaTuner$Setting;"⟩
def dkwX0_lambda_new_1_0 : List UInt8 := [187, 0, 206, 89, 42, 180, 0, 232, 42, 180, 0, 220, 27, 100, 42, 180, 0, 222, 183, 0, 225, 176]
abbrev dktX0_lambda_new_1_0 : List UInt8 := dkwX0_lambda_new_1_0 ++ []
theorem dksX0_lambda_new_1_0 : cX0_lambda_new_1.data.toList.drop 0 = dktX0_lambda_new_1_0 := by decide +kernel
theorem dX0_lambda_new_1_0 : decode cX0_lambda_new_1 0 = .ok (.new 206, 3) := dk_187 0 206 (dk_at dksX0_lambda_new_1_0 0 rfl rfl)
theorem dX0_lambda_new_1_3 : decode cX0_lambda_new_1 3 = .ok (.dup, 1) := dk_89 (dk_at dksX0_lambda_new_1_0 3 rfl rfl)
theorem dX0_lambda_new_1_4 : decode cX0_lambda_new_1 4 = .ok (.aload_n 0, 1) := dk_42 (dk_at dksX0_lambda_new_1_0 4 rfl rfl)
theorem dX0_lambda_new_1_5 : decode cX0_lambda_new_1 5 = .ok (.getfield 232, 3) := dk_180 0 232 (dk_at dksX0_lambda_new_1_0 5 rfl rfl)
theorem dX0_lambda_new_1_8 : decode cX0_lambda_new_1 8 = .ok (.aload_n 0, 1) := dk_42 (dk_at dksX0_lambda_new_1_0 8 rfl rfl)
theorem dX0_lambda_new_1_9 : decode cX0_lambda_new_1 9 = .ok (.getfield 220, 3) := dk_180 0 220 (dk_at dksX0_lambda_new_1_0 9 rfl rfl)
theorem dX0_lambda_new_1_12 : decode cX0_lambda_new_1 12 = .ok (.iload_n 1, 1) := dk_27 (dk_at dksX0_lambda_new_1_0 12 rfl rfl)
theorem dX0_lambda_new_1_13 : decode cX0_lambda_new_1 13 = .ok (.isub, 1) := dk_100 (dk_at dksX0_lambda_new_1_0 13 rfl rfl)
theorem dX0_lambda_new_1_14 : decode cX0_lambda_new_1 14 = .ok (.aload_n 0, 1) := dk_42 (dk_at dksX0_lambda_new_1_0 14 rfl rfl)
theorem dX0_lambda_new_1_15 : decode cX0_lambda_new_1 15 = .ok (.getfield 222, 3) := dk_180 0 222 (dk_at dksX0_lambda_new_1_0 15 rfl rfl)
theorem dX0_lambda_new_1_18 : decode cX0_lambda_new_1 18 = .ok (.invokespecial 225, 3) := dk_183 0 225 (dk_at dksX0_lambda_new_1_0 18 rfl rfl)
theorem dX0_lambda_new_1_21 : decode cX0_lambda_new_1 21 = .ok (.areturn, 1) := dk_176 (dk_at dksX0_lambda_new_1_0 21 rfl rfl)
abbrev cX0_lambda_new_2 : ByteArray := prog_1_method_76_code
def yX0_lambda_new_2 : MethodName := ⟨RX0, "lambda$new$2", "(LAntennaTuner$Setting;I)LAntennaTuner$Setting;"⟩
def dkwX0_lambda_new_2_0 : List UInt8 := [187, 0, 206, 89, 42, 180, 0, 232, 42, 180, 0, 220, 42, 180, 0, 222, 27, 96, 183, 0, 225, 176]
abbrev dktX0_lambda_new_2_0 : List UInt8 := dkwX0_lambda_new_2_0 ++ []
theorem dksX0_lambda_new_2_0 : cX0_lambda_new_2.data.toList.drop 0 = dktX0_lambda_new_2_0 := by decide +kernel
theorem dX0_lambda_new_2_0 : decode cX0_lambda_new_2 0 = .ok (.new 206, 3) := dk_187 0 206 (dk_at dksX0_lambda_new_2_0 0 rfl rfl)
theorem dX0_lambda_new_2_3 : decode cX0_lambda_new_2 3 = .ok (.dup, 1) := dk_89 (dk_at dksX0_lambda_new_2_0 3 rfl rfl)
theorem dX0_lambda_new_2_4 : decode cX0_lambda_new_2 4 = .ok (.aload_n 0, 1) := dk_42 (dk_at dksX0_lambda_new_2_0 4 rfl rfl)
theorem dX0_lambda_new_2_5 : decode cX0_lambda_new_2 5 = .ok (.getfield 232, 3) := dk_180 0 232 (dk_at dksX0_lambda_new_2_0 5 rfl rfl)
theorem dX0_lambda_new_2_8 : decode cX0_lambda_new_2 8 = .ok (.aload_n 0, 1) := dk_42 (dk_at dksX0_lambda_new_2_0 8 rfl rfl)
theorem dX0_lambda_new_2_9 : decode cX0_lambda_new_2 9 = .ok (.getfield 220, 3) := dk_180 0 220 (dk_at dksX0_lambda_new_2_0 9 rfl rfl)
theorem dX0_lambda_new_2_12 : decode cX0_lambda_new_2 12 = .ok (.aload_n 0, 1) := dk_42 (dk_at dksX0_lambda_new_2_0 12 rfl rfl)
theorem dX0_lambda_new_2_13 : decode cX0_lambda_new_2 13 = .ok (.getfield 222, 3) := dk_180 0 222 (dk_at dksX0_lambda_new_2_0 13 rfl rfl)
theorem dX0_lambda_new_2_16 : decode cX0_lambda_new_2 16 = .ok (.iload_n 1, 1) := dk_27 (dk_at dksX0_lambda_new_2_0 16 rfl rfl)
theorem dX0_lambda_new_2_17 : decode cX0_lambda_new_2 17 = .ok (.iadd, 1) := dk_96 (dk_at dksX0_lambda_new_2_0 17 rfl rfl)
theorem dX0_lambda_new_2_18 : decode cX0_lambda_new_2 18 = .ok (.invokespecial 225, 3) := dk_183 0 225 (dk_at dksX0_lambda_new_2_0 18 rfl rfl)
theorem dX0_lambda_new_2_21 : decode cX0_lambda_new_2 21 = .ok (.areturn, 1) := dk_176 (dk_at dksX0_lambda_new_2_0 21 rfl rfl)
abbrev cX0_lambda_new_3 : ByteArray := prog_1_method_75_code
def yX0_lambda_new_3 : MethodName := ⟨RX0, "lambda$new$3", "(LAntennaTuner$Setting;I)LAntennaTuner$Setting;"⟩
def dkwX0_lambda_new_3_0 : List UInt8 := [187, 0, 206, 89, 42, 180, 0, 232, 42, 180, 0, 220, 42, 180, 0, 222, 27, 100, 183, 0, 225, 176]
abbrev dktX0_lambda_new_3_0 : List UInt8 := dkwX0_lambda_new_3_0 ++ []
theorem dksX0_lambda_new_3_0 : cX0_lambda_new_3.data.toList.drop 0 = dktX0_lambda_new_3_0 := by decide +kernel
theorem dX0_lambda_new_3_0 : decode cX0_lambda_new_3 0 = .ok (.new 206, 3) := dk_187 0 206 (dk_at dksX0_lambda_new_3_0 0 rfl rfl)
theorem dX0_lambda_new_3_3 : decode cX0_lambda_new_3 3 = .ok (.dup, 1) := dk_89 (dk_at dksX0_lambda_new_3_0 3 rfl rfl)
theorem dX0_lambda_new_3_4 : decode cX0_lambda_new_3 4 = .ok (.aload_n 0, 1) := dk_42 (dk_at dksX0_lambda_new_3_0 4 rfl rfl)
theorem dX0_lambda_new_3_5 : decode cX0_lambda_new_3 5 = .ok (.getfield 232, 3) := dk_180 0 232 (dk_at dksX0_lambda_new_3_0 5 rfl rfl)
theorem dX0_lambda_new_3_8 : decode cX0_lambda_new_3 8 = .ok (.aload_n 0, 1) := dk_42 (dk_at dksX0_lambda_new_3_0 8 rfl rfl)
theorem dX0_lambda_new_3_9 : decode cX0_lambda_new_3 9 = .ok (.getfield 220, 3) := dk_180 0 220 (dk_at dksX0_lambda_new_3_0 9 rfl rfl)
theorem dX0_lambda_new_3_12 : decode cX0_lambda_new_3 12 = .ok (.aload_n 0, 1) := dk_42 (dk_at dksX0_lambda_new_3_0 12 rfl rfl)
theorem dX0_lambda_new_3_13 : decode cX0_lambda_new_3 13 = .ok (.getfield 222, 3) := dk_180 0 222 (dk_at dksX0_lambda_new_3_0 13 rfl rfl)
theorem dX0_lambda_new_3_16 : decode cX0_lambda_new_3 16 = .ok (.iload_n 1, 1) := dk_27 (dk_at dksX0_lambda_new_3_0 16 rfl rfl)
theorem dX0_lambda_new_3_17 : decode cX0_lambda_new_3 17 = .ok (.isub, 1) := dk_100 (dk_at dksX0_lambda_new_3_0 17 rfl rfl)
theorem dX0_lambda_new_3_18 : decode cX0_lambda_new_3 18 = .ok (.invokespecial 225, 3) := dk_183 0 225 (dk_at dksX0_lambda_new_3_0 18 rfl rfl)
theorem dX0_lambda_new_3_21 : decode cX0_lambda_new_3 21 = .ok (.areturn, 1) := dk_176 (dk_at dksX0_lambda_new_3_0 21 rfl rfl)
abbrev cX0_lambda_new_4 : ByteArray := prog_1_method_74_code
def yX0_lambda_new_4 : MethodName := ⟨RX0, "lambda$new$4", "(LAntennaTuner$Setting;I)LAntennaTuner$Setting;"⟩
def dkwX0_lambda_new_4_0 : List UInt8 := [187, 0, 206, 89, 4, 42, 180, 0, 232, 100, 42, 180, 0, 220, 42, 180, 0, 222, 183, 0, 225, 176]
abbrev dktX0_lambda_new_4_0 : List UInt8 := dkwX0_lambda_new_4_0 ++ []
theorem dksX0_lambda_new_4_0 : cX0_lambda_new_4.data.toList.drop 0 = dktX0_lambda_new_4_0 := by decide +kernel
theorem dX0_lambda_new_4_0 : decode cX0_lambda_new_4 0 = .ok (.new 206, 3) := dk_187 0 206 (dk_at dksX0_lambda_new_4_0 0 rfl rfl)
theorem dX0_lambda_new_4_3 : decode cX0_lambda_new_4 3 = .ok (.dup, 1) := dk_89 (dk_at dksX0_lambda_new_4_0 3 rfl rfl)
theorem dX0_lambda_new_4_4 : decode cX0_lambda_new_4 4 = .ok (.iconst 1, 1) := dk_4 (dk_at dksX0_lambda_new_4_0 4 rfl rfl)
theorem dX0_lambda_new_4_5 : decode cX0_lambda_new_4 5 = .ok (.aload_n 0, 1) := dk_42 (dk_at dksX0_lambda_new_4_0 5 rfl rfl)
theorem dX0_lambda_new_4_6 : decode cX0_lambda_new_4 6 = .ok (.getfield 232, 3) := dk_180 0 232 (dk_at dksX0_lambda_new_4_0 6 rfl rfl)
theorem dX0_lambda_new_4_9 : decode cX0_lambda_new_4 9 = .ok (.isub, 1) := dk_100 (dk_at dksX0_lambda_new_4_0 9 rfl rfl)
theorem dX0_lambda_new_4_10 : decode cX0_lambda_new_4 10 = .ok (.aload_n 0, 1) := dk_42 (dk_at dksX0_lambda_new_4_0 10 rfl rfl)
theorem dX0_lambda_new_4_11 : decode cX0_lambda_new_4 11 = .ok (.getfield 220, 3) := dk_180 0 220 (dk_at dksX0_lambda_new_4_0 11 rfl rfl)
theorem dX0_lambda_new_4_14 : decode cX0_lambda_new_4 14 = .ok (.aload_n 0, 1) := dk_42 (dk_at dksX0_lambda_new_4_0 14 rfl rfl)
theorem dX0_lambda_new_4_15 : decode cX0_lambda_new_4 15 = .ok (.getfield 222, 3) := dk_180 0 222 (dk_at dksX0_lambda_new_4_0 15 rfl rfl)
theorem dX0_lambda_new_4_18 : decode cX0_lambda_new_4 18 = .ok (.invokespecial 225, 3) := dk_183 0 225 (dk_at dksX0_lambda_new_4_0 18 rfl rfl)
theorem dX0_lambda_new_4_21 : decode cX0_lambda_new_4 21 = .ok (.areturn, 1) := dk_176 (dk_at dksX0_lambda_new_4_0 21 rfl rfl)
abbrev cX0_append : ByteArray := prog_1_method_11_code
def yX0_append : MethodName := ⟨RX0, "append", "(IIIII)I"⟩
def dkwX0_append_2 : List UInt8 := [172]
abbrev dktX0_append_2 : List UInt8 := dkwX0_append_2 ++ []
def dkwX0_append_1 : List UInt8 := [182, 0, 132, 42, 29, 182, 0, 132, 42, 21, 4, 182, 0, 132, 42, 21, 5, 182, 0, 132, 42, 180, 0, 129]
abbrev dktX0_append_1 : List UInt8 := dkwX0_append_1 ++ dktX0_append_2
def dkwX0_append_0 : List UInt8 := [42, 180, 0, 129, 16, 20, 96, 17, 1, 244, 164, 0, 6, 16, 254, 172, 42, 27, 182, 0, 132, 42, 28]
abbrev dktX0_append_0 : List UInt8 := dkwX0_append_0 ++ dktX0_append_1
theorem dksX0_append_0 : cX0_append.data.toList.drop 0 = dktX0_append_0 := by decide +kernel
theorem dksX0_append_1 : cX0_append.data.toList.drop 23 = dktX0_append_1 := dk_seg dksX0_append_0 23 rfl rfl
theorem dksX0_append_2 : cX0_append.data.toList.drop 47 = dktX0_append_2 := dk_seg dksX0_append_1 24 rfl rfl
theorem dX0_append_0 : decode cX0_append 0 = .ok (.aload_n 0, 1) := dk_42 (dk_at dksX0_append_0 0 rfl rfl)
theorem dX0_append_1 : decode cX0_append 1 = .ok (.getfield 129, 3) := dk_180 0 129 (dk_at dksX0_append_0 1 rfl rfl)
theorem dX0_append_4 : decode cX0_append 4 = .ok (.bipush 20, 2) := dk_16 20 (dk_at dksX0_append_0 4 rfl rfl)
theorem dX0_append_6 : decode cX0_append 6 = .ok (.iadd, 1) := dk_96 (dk_at dksX0_append_0 6 rfl rfl)
theorem dX0_append_7 : decode cX0_append 7 = .ok (.sipush 500, 3) := dk_17 1 244 (dk_at dksX0_append_0 7 rfl rfl)
theorem dX0_append_10 : decode cX0_append 10 = .ok (.if_icmp .le 6, 3) := dk_164 0 6 (dk_at dksX0_append_0 10 rfl rfl)
theorem dX0_append_13 : decode cX0_append 13 = .ok (.bipush (-2), 2) := dk_16 254 (dk_at dksX0_append_0 13 rfl rfl)
theorem dX0_append_15 : decode cX0_append 15 = .ok (.ireturn, 1) := dk_172 (dk_at dksX0_append_0 15 rfl rfl)
theorem dX0_append_16 : decode cX0_append 16 = .ok (.aload_n 0, 1) := dk_42 (dk_at dksX0_append_0 16 rfl rfl)
theorem dX0_append_17 : decode cX0_append 17 = .ok (.iload_n 1, 1) := dk_27 (dk_at dksX0_append_0 17 rfl rfl)
theorem dX0_append_18 : decode cX0_append 18 = .ok (.invokevirtual 132, 3) := dk_182 0 132 (dk_at dksX0_append_0 18 rfl rfl)
theorem dX0_append_21 : decode cX0_append 21 = .ok (.aload_n 0, 1) := dk_42 (dk_at dksX0_append_0 21 rfl rfl)
theorem dX0_append_22 : decode cX0_append 22 = .ok (.iload_n 2, 1) := dk_28 (dk_at dksX0_append_0 22 rfl rfl)
theorem dX0_append_23 : decode cX0_append 23 = .ok (.invokevirtual 132, 3) := dk_182 0 132 (dk_at dksX0_append_1 0 rfl rfl)
theorem dX0_append_26 : decode cX0_append 26 = .ok (.aload_n 0, 1) := dk_42 (dk_at dksX0_append_1 3 rfl rfl)
theorem dX0_append_27 : decode cX0_append 27 = .ok (.iload_n 3, 1) := dk_29 (dk_at dksX0_append_1 4 rfl rfl)
theorem dX0_append_28 : decode cX0_append 28 = .ok (.invokevirtual 132, 3) := dk_182 0 132 (dk_at dksX0_append_1 5 rfl rfl)
theorem dX0_append_31 : decode cX0_append 31 = .ok (.aload_n 0, 1) := dk_42 (dk_at dksX0_append_1 8 rfl rfl)
theorem dX0_append_32 : decode cX0_append 32 = .ok (.iload 4, 2) := dk_21 4 (dk_at dksX0_append_1 9 rfl rfl)
theorem dX0_append_34 : decode cX0_append 34 = .ok (.invokevirtual 132, 3) := dk_182 0 132 (dk_at dksX0_append_1 11 rfl rfl)
theorem dX0_append_37 : decode cX0_append 37 = .ok (.aload_n 0, 1) := dk_42 (dk_at dksX0_append_1 14 rfl rfl)
theorem dX0_append_38 : decode cX0_append 38 = .ok (.iload 5, 2) := dk_21 5 (dk_at dksX0_append_1 15 rfl rfl)
theorem dX0_append_40 : decode cX0_append 40 = .ok (.invokevirtual 132, 3) := dk_182 0 132 (dk_at dksX0_append_1 17 rfl rfl)
theorem dX0_append_43 : decode cX0_append 43 = .ok (.aload_n 0, 1) := dk_42 (dk_at dksX0_append_1 20 rfl rfl)
theorem dX0_append_44 : decode cX0_append 44 = .ok (.getfield 129, 3) := dk_180 0 129 (dk_at dksX0_append_1 21 rfl rfl)
theorem dX0_append_47 : decode cX0_append 47 = .ok (.ireturn, 1) := dk_172 (dk_at dksX0_append_2 0 rfl rfl)
abbrev cX0_put : ByteArray := prog_1_method_10_code
def yX0_put : MethodName := ⟨RX0, "put", "(I)V"⟩
def dkwX0_put_1 : List UInt8 := [180, 0, 129, 4, 96, 181, 0, 129, 132, 2, 248, 167, 255, 226, 177]
abbrev dktX0_put_1 : List UInt8 := dkwX0_put_1 ++ []
def dkwX0_put_0 : List UInt8 := [16, 24, 61, 28, 155, 0, 32, 42, 180, 0, 53, 42, 180, 0, 129, 27, 28, 122, 145, 84, 42, 89]
abbrev dktX0_put_0 : List UInt8 := dkwX0_put_0 ++ dktX0_put_1
theorem dksX0_put_0 : cX0_put.data.toList.drop 0 = dktX0_put_0 := by decide +kernel
theorem dksX0_put_1 : cX0_put.data.toList.drop 22 = dktX0_put_1 := dk_seg dksX0_put_0 22 rfl rfl
theorem dX0_put_0 : decode cX0_put 0 = .ok (.bipush 24, 2) := dk_16 24 (dk_at dksX0_put_0 0 rfl rfl)
theorem dX0_put_2 : decode cX0_put 2 = .ok (.istore_n 2, 1) := dk_61 (dk_at dksX0_put_0 2 rfl rfl)
theorem dX0_put_3 : decode cX0_put 3 = .ok (.iload_n 2, 1) := dk_28 (dk_at dksX0_put_0 3 rfl rfl)
theorem dX0_put_4 : decode cX0_put 4 = .ok (.ifCond .lt 32, 3) := dk_155 0 32 (dk_at dksX0_put_0 4 rfl rfl)
theorem dX0_put_7 : decode cX0_put 7 = .ok (.aload_n 0, 1) := dk_42 (dk_at dksX0_put_0 7 rfl rfl)
theorem dX0_put_8 : decode cX0_put 8 = .ok (.getfield 53, 3) := dk_180 0 53 (dk_at dksX0_put_0 8 rfl rfl)
theorem dX0_put_11 : decode cX0_put 11 = .ok (.aload_n 0, 1) := dk_42 (dk_at dksX0_put_0 11 rfl rfl)
theorem dX0_put_12 : decode cX0_put 12 = .ok (.getfield 129, 3) := dk_180 0 129 (dk_at dksX0_put_0 12 rfl rfl)
theorem dX0_put_15 : decode cX0_put 15 = .ok (.iload_n 1, 1) := dk_27 (dk_at dksX0_put_0 15 rfl rfl)
theorem dX0_put_16 : decode cX0_put 16 = .ok (.iload_n 2, 1) := dk_28 (dk_at dksX0_put_0 16 rfl rfl)
theorem dX0_put_17 : decode cX0_put 17 = .ok (.ishr, 1) := dk_122 (dk_at dksX0_put_0 17 rfl rfl)
theorem dX0_put_18 : decode cX0_put 18 = .ok (.i2b, 1) := dk_145 (dk_at dksX0_put_0 18 rfl rfl)
theorem dX0_put_19 : decode cX0_put 19 = .ok (.bastore, 1) := dk_84 (dk_at dksX0_put_0 19 rfl rfl)
theorem dX0_put_20 : decode cX0_put 20 = .ok (.aload_n 0, 1) := dk_42 (dk_at dksX0_put_0 20 rfl rfl)
theorem dX0_put_21 : decode cX0_put 21 = .ok (.dup, 1) := dk_89 (dk_at dksX0_put_0 21 rfl rfl)
theorem dX0_put_22 : decode cX0_put 22 = .ok (.getfield 129, 3) := dk_180 0 129 (dk_at dksX0_put_1 0 rfl rfl)
theorem dX0_put_25 : decode cX0_put 25 = .ok (.iconst 1, 1) := dk_4 (dk_at dksX0_put_1 3 rfl rfl)
theorem dX0_put_26 : decode cX0_put 26 = .ok (.iadd, 1) := dk_96 (dk_at dksX0_put_1 4 rfl rfl)
theorem dX0_put_27 : decode cX0_put 27 = .ok (.putfield 129, 3) := dk_181 0 129 (dk_at dksX0_put_1 5 rfl rfl)
theorem dX0_put_30 : decode cX0_put 30 = .ok (.iinc 2 (-8), 3) := dk_132 2 248 (dk_at dksX0_put_1 8 rfl rfl)
theorem dX0_put_33 : decode cX0_put 33 = .ok (.goto (-30), 3) := dk_167 255 226 (dk_at dksX0_put_1 11 rfl rfl)
theorem dX0_put_36 : decode cX0_put 36 = .ok (.return_, 1) := dk_177 (dk_at dksX0_put_1 14 rfl rfl)
abbrev cX0_truncate : ByteArray := prog_1_method_12_code
def yX0_truncate : MethodName := ⟨RX0, "truncate", "(I)I"⟩
def dkwX0_truncate_0 : List UInt8 := [27, 3, 42, 180, 0, 129, 184, 0, 125, 154, 0, 5, 2, 172, 42, 27, 181, 0, 129, 42, 180, 0, 129, 172]
abbrev dktX0_truncate_0 : List UInt8 := dkwX0_truncate_0 ++ []
theorem dksX0_truncate_0 : cX0_truncate.data.toList.drop 0 = dktX0_truncate_0 := by decide +kernel
theorem dX0_truncate_0 : decode cX0_truncate 0 = .ok (.iload_n 1, 1) := dk_27 (dk_at dksX0_truncate_0 0 rfl rfl)
theorem dX0_truncate_1 : decode cX0_truncate 1 = .ok (.iconst 0, 1) := dk_3 (dk_at dksX0_truncate_0 1 rfl rfl)
theorem dX0_truncate_2 : decode cX0_truncate 2 = .ok (.aload_n 0, 1) := dk_42 (dk_at dksX0_truncate_0 2 rfl rfl)
theorem dX0_truncate_3 : decode cX0_truncate 3 = .ok (.getfield 129, 3) := dk_180 0 129 (dk_at dksX0_truncate_0 3 rfl rfl)
theorem dX0_truncate_6 : decode cX0_truncate 6 = .ok (.invokestatic 125, 3) := dk_184 0 125 (dk_at dksX0_truncate_0 6 rfl rfl)
theorem dX0_truncate_9 : decode cX0_truncate 9 = .ok (.ifCond .ne 5, 3) := dk_154 0 5 (dk_at dksX0_truncate_0 9 rfl rfl)
theorem dX0_truncate_12 : decode cX0_truncate 12 = .ok (.iconst (-1), 1) := dk_2 (dk_at dksX0_truncate_0 12 rfl rfl)
theorem dX0_truncate_13 : decode cX0_truncate 13 = .ok (.ireturn, 1) := dk_172 (dk_at dksX0_truncate_0 13 rfl rfl)
theorem dX0_truncate_14 : decode cX0_truncate 14 = .ok (.aload_n 0, 1) := dk_42 (dk_at dksX0_truncate_0 14 rfl rfl)
theorem dX0_truncate_15 : decode cX0_truncate 15 = .ok (.iload_n 1, 1) := dk_27 (dk_at dksX0_truncate_0 15 rfl rfl)
theorem dX0_truncate_16 : decode cX0_truncate 16 = .ok (.putfield 129, 3) := dk_181 0 129 (dk_at dksX0_truncate_0 16 rfl rfl)
theorem dX0_truncate_19 : decode cX0_truncate 19 = .ok (.aload_n 0, 1) := dk_42 (dk_at dksX0_truncate_0 19 rfl rfl)
theorem dX0_truncate_20 : decode cX0_truncate 20 = .ok (.getfield 129, 3) := dk_180 0 129 (dk_at dksX0_truncate_0 20 rfl rfl)
theorem dX0_truncate_23 : decode cX0_truncate 23 = .ok (.ireturn, 1) := dk_172 (dk_at dksX0_truncate_0 23 rfl rfl)
abbrev cX0_isIn : ByteArray := prog_1_method_1_code
def yX0_isIn : MethodName := ⟨RX0, "isIn", "(III)Z"⟩
def dkwX0_isIn_0 : List UInt8 := [26, 27, 161, 0, 12, 26, 28, 163, 0, 7, 4, 167, 0, 4, 3, 172]
abbrev dktX0_isIn_0 : List UInt8 := dkwX0_isIn_0 ++ []
theorem dksX0_isIn_0 : cX0_isIn.data.toList.drop 0 = dktX0_isIn_0 := by decide +kernel
theorem dX0_isIn_0 : decode cX0_isIn 0 = .ok (.iload_n 0, 1) := dk_26 (dk_at dksX0_isIn_0 0 rfl rfl)
theorem dX0_isIn_1 : decode cX0_isIn 1 = .ok (.iload_n 1, 1) := dk_27 (dk_at dksX0_isIn_0 1 rfl rfl)
theorem dX0_isIn_2 : decode cX0_isIn 2 = .ok (.if_icmp .lt 12, 3) := dk_161 0 12 (dk_at dksX0_isIn_0 2 rfl rfl)
theorem dX0_isIn_5 : decode cX0_isIn 5 = .ok (.iload_n 0, 1) := dk_26 (dk_at dksX0_isIn_0 5 rfl rfl)
theorem dX0_isIn_6 : decode cX0_isIn 6 = .ok (.iload_n 2, 1) := dk_28 (dk_at dksX0_isIn_0 6 rfl rfl)
theorem dX0_isIn_7 : decode cX0_isIn 7 = .ok (.if_icmp .gt 7, 3) := dk_163 0 7 (dk_at dksX0_isIn_0 7 rfl rfl)
theorem dX0_isIn_10 : decode cX0_isIn 10 = .ok (.iconst 1, 1) := dk_4 (dk_at dksX0_isIn_0 10 rfl rfl)
theorem dX0_isIn_11 : decode cX0_isIn 11 = .ok (.goto 4, 3) := dk_167 0 4 (dk_at dksX0_isIn_0 11 rfl rfl)
theorem dX0_isIn_14 : decode cX0_isIn 14 = .ok (.iconst 0, 1) := dk_3 (dk_at dksX0_isIn_0 14 rfl rfl)
theorem dX0_isIn_15 : decode cX0_isIn 15 = .ok (.ireturn, 1) := dk_172 (dk_at dksX0_isIn_0 15 rfl rfl)
abbrev cX0_load : ByteArray := prog_1_method_13_code
def yX0_load : MethodName := ⟨RX0, "load", "()I"⟩
def dkwX0_load_3 : List UInt8 := [182, 0, 159, 42, 1, 181, 0, 162, 42, 3, 181, 0, 166, 42, 180, 0, 100, 180, 0, 169, 172]
abbrev dktX0_load_3 : List UInt8 := dkwX0_load_3 ++ []
def dkwX0_load_2 : List UInt8 := [187, 0, 112, 89, 42, 180, 0, 100, 180, 0, 151, 3, 46, 183, 0, 157, 181, 0, 114, 42, 180, 0, 96]
abbrev dktX0_load_2 : List UInt8 := dkwX0_load_2 ++ dktX0_load_3
def dkwX0_load_1 : List UInt8 := [181, 0, 100, 167, 0, 20, 77, 42, 44, 180, 0, 145, 181, 0, 57, 16, 246, 44, 180, 0, 148, 100, 172, 42]
abbrev dktX0_load_1 : List UInt8 := dkwX0_load_1 ++ dktX0_load_2
def dkwX0_load_0 : List UInt8 := [187, 0, 136, 89, 42, 183, 0, 138, 76, 42, 3, 181, 0, 129, 42, 2, 181, 0, 57, 42, 43, 182, 0, 139]
abbrev dktX0_load_0 : List UInt8 := dkwX0_load_0 ++ dktX0_load_1
theorem dksX0_load_0 : cX0_load.data.toList.drop 0 = dktX0_load_0 := by decide +kernel
theorem dksX0_load_1 : cX0_load.data.toList.drop 24 = dktX0_load_1 := dk_seg dksX0_load_0 24 rfl rfl
theorem dksX0_load_2 : cX0_load.data.toList.drop 48 = dktX0_load_2 := dk_seg dksX0_load_1 24 rfl rfl
theorem dksX0_load_3 : cX0_load.data.toList.drop 71 = dktX0_load_3 := dk_seg dksX0_load_2 23 rfl rfl
theorem dX0_load_0 : decode cX0_load 0 = .ok (.new 136, 3) := dk_187 0 136 (dk_at dksX0_load_0 0 rfl rfl)
theorem dX0_load_3 : decode cX0_load 3 = .ok (.dup, 1) := dk_89 (dk_at dksX0_load_0 3 rfl rfl)
theorem dX0_load_4 : decode cX0_load 4 = .ok (.aload_n 0, 1) := dk_42 (dk_at dksX0_load_0 4 rfl rfl)
theorem dX0_load_5 : decode cX0_load 5 = .ok (.invokespecial 138, 3) := dk_183 0 138 (dk_at dksX0_load_0 5 rfl rfl)
theorem dX0_load_8 : decode cX0_load 8 = .ok (.astore_n 1, 1) := dk_76 (dk_at dksX0_load_0 8 rfl rfl)
theorem dX0_load_9 : decode cX0_load 9 = .ok (.aload_n 0, 1) := dk_42 (dk_at dksX0_load_0 9 rfl rfl)
theorem dX0_load_10 : decode cX0_load 10 = .ok (.iconst 0, 1) := dk_3 (dk_at dksX0_load_0 10 rfl rfl)
theorem dX0_load_11 : decode cX0_load 11 = .ok (.putfield 129, 3) := dk_181 0 129 (dk_at dksX0_load_0 11 rfl rfl)
theorem dX0_load_14 : decode cX0_load 14 = .ok (.aload_n 0, 1) := dk_42 (dk_at dksX0_load_0 14 rfl rfl)
theorem dX0_load_15 : decode cX0_load 15 = .ok (.iconst (-1), 1) := dk_2 (dk_at dksX0_load_0 15 rfl rfl)
theorem dX0_load_16 : decode cX0_load 16 = .ok (.putfield 57, 3) := dk_181 0 57 (dk_at dksX0_load_0 16 rfl rfl)
theorem dX0_load_19 : decode cX0_load 19 = .ok (.aload_n 0, 1) := dk_42 (dk_at dksX0_load_0 19 rfl rfl)
theorem dX0_load_20 : decode cX0_load 20 = .ok (.aload_n 1, 1) := dk_43 (dk_at dksX0_load_0 20 rfl rfl)
theorem dX0_load_21 : decode cX0_load 21 = .ok (.invokevirtual 139, 3) := dk_182 0 139 (dk_at dksX0_load_0 21 rfl rfl)
theorem dX0_load_24 : decode cX0_load 24 = .ok (.putfield 100, 3) := dk_181 0 100 (dk_at dksX0_load_1 0 rfl rfl)
theorem dX0_load_27 : decode cX0_load 27 = .ok (.goto 20, 3) := dk_167 0 20 (dk_at dksX0_load_1 3 rfl rfl)
theorem dX0_load_30 : decode cX0_load 30 = .ok (.astore_n 2, 1) := dk_77 (dk_at dksX0_load_1 6 rfl rfl)
theorem dX0_load_31 : decode cX0_load 31 = .ok (.aload_n 0, 1) := dk_42 (dk_at dksX0_load_1 7 rfl rfl)
theorem dX0_load_32 : decode cX0_load 32 = .ok (.aload_n 2, 1) := dk_44 (dk_at dksX0_load_1 8 rfl rfl)
theorem dX0_load_33 : decode cX0_load 33 = .ok (.getfield 145, 3) := dk_180 0 145 (dk_at dksX0_load_1 9 rfl rfl)
theorem dX0_load_36 : decode cX0_load 36 = .ok (.putfield 57, 3) := dk_181 0 57 (dk_at dksX0_load_1 12 rfl rfl)
theorem dX0_load_39 : decode cX0_load 39 = .ok (.bipush (-10), 2) := dk_16 246 (dk_at dksX0_load_1 15 rfl rfl)
theorem dX0_load_41 : decode cX0_load 41 = .ok (.aload_n 2, 1) := dk_44 (dk_at dksX0_load_1 17 rfl rfl)
theorem dX0_load_42 : decode cX0_load 42 = .ok (.getfield 148, 3) := dk_180 0 148 (dk_at dksX0_load_1 18 rfl rfl)
theorem dX0_load_45 : decode cX0_load 45 = .ok (.isub, 1) := dk_100 (dk_at dksX0_load_1 21 rfl rfl)
theorem dX0_load_46 : decode cX0_load 46 = .ok (.ireturn, 1) := dk_172 (dk_at dksX0_load_1 22 rfl rfl)
theorem dX0_load_47 : decode cX0_load 47 = .ok (.aload_n 0, 1) := dk_42 (dk_at dksX0_load_1 23 rfl rfl)
theorem dX0_load_48 : decode cX0_load 48 = .ok (.new 112, 3) := dk_187 0 112 (dk_at dksX0_load_2 0 rfl rfl)
theorem dX0_load_51 : decode cX0_load 51 = .ok (.dup, 1) := dk_89 (dk_at dksX0_load_2 3 rfl rfl)
theorem dX0_load_52 : decode cX0_load 52 = .ok (.aload_n 0, 1) := dk_42 (dk_at dksX0_load_2 4 rfl rfl)
theorem dX0_load_53 : decode cX0_load 53 = .ok (.getfield 100, 3) := dk_180 0 100 (dk_at dksX0_load_2 5 rfl rfl)
theorem dX0_load_56 : decode cX0_load 56 = .ok (.getfield 151, 3) := dk_180 0 151 (dk_at dksX0_load_2 8 rfl rfl)
theorem dX0_load_59 : decode cX0_load 59 = .ok (.iconst 0, 1) := dk_3 (dk_at dksX0_load_2 11 rfl rfl)
theorem dX0_load_60 : decode cX0_load 60 = .ok (.iaload, 1) := dk_46 (dk_at dksX0_load_2 12 rfl rfl)
theorem dX0_load_61 : decode cX0_load 61 = .ok (.invokespecial 157, 3) := dk_183 0 157 (dk_at dksX0_load_2 13 rfl rfl)
theorem dX0_load_64 : decode cX0_load 64 = .ok (.putfield 114, 3) := dk_181 0 114 (dk_at dksX0_load_2 16 rfl rfl)
theorem dX0_load_67 : decode cX0_load 67 = .ok (.aload_n 0, 1) := dk_42 (dk_at dksX0_load_2 19 rfl rfl)
theorem dX0_load_68 : decode cX0_load 68 = .ok (.getfield 96, 3) := dk_180 0 96 (dk_at dksX0_load_2 20 rfl rfl)
theorem dX0_load_71 : decode cX0_load 71 = .ok (.invokevirtual 159, 3) := dk_182 0 159 (dk_at dksX0_load_3 0 rfl rfl)
theorem dX0_load_74 : decode cX0_load 74 = .ok (.aload_n 0, 1) := dk_42 (dk_at dksX0_load_3 3 rfl rfl)
theorem dX0_load_75 : decode cX0_load 75 = .ok (.aconst_null, 1) := dk_1 (dk_at dksX0_load_3 4 rfl rfl)
theorem dX0_load_76 : decode cX0_load 76 = .ok (.putfield 162, 3) := dk_181 0 162 (dk_at dksX0_load_3 5 rfl rfl)
theorem dX0_load_79 : decode cX0_load 79 = .ok (.aload_n 0, 1) := dk_42 (dk_at dksX0_load_3 8 rfl rfl)
theorem dX0_load_80 : decode cX0_load 80 = .ok (.iconst 0, 1) := dk_3 (dk_at dksX0_load_3 9 rfl rfl)
theorem dX0_load_81 : decode cX0_load 81 = .ok (.putfield 166, 3) := dk_181 0 166 (dk_at dksX0_load_3 10 rfl rfl)
theorem dX0_load_84 : decode cX0_load 84 = .ok (.aload_n 0, 1) := dk_42 (dk_at dksX0_load_3 13 rfl rfl)
theorem dX0_load_85 : decode cX0_load 85 = .ok (.getfield 100, 3) := dk_180 0 100 (dk_at dksX0_load_3 14 rfl rfl)
theorem dX0_load_88 : decode cX0_load 88 = .ok (.getfield 169, 3) := dk_180 0 169 (dk_at dksX0_load_3 17 rfl rfl)
theorem dX0_load_91 : decode cX0_load 91 = .ok (.ireturn, 1) := dk_172 (dk_at dksX0_load_3 20 rfl rfl)
abbrev cX0_errorPosition : ByteArray := prog_1_method_14_code
def yX0_errorPosition : MethodName := ⟨RX0, "errorPosition", "()I"⟩
theorem dX0_errorPosition_0 : decode cX0_errorPosition 0 = .ok (.aload_n 0, 1) := by decide +kernel
theorem dX0_errorPosition_1 : decode cX0_errorPosition 1 = .ok (.getfield 57, 3) := by decide +kernel
theorem dX0_errorPosition_4 : decode cX0_errorPosition 4 = .ok (.ireturn, 1) := by decide +kernel
abbrev cX0_antennaResistance : ByteArray := prog_1_method_15_code
def yX0_antennaResistance : MethodName := ⟨RX0, "antennaResistance", "(I)J"⟩
def dkwX0_antennaResistance_1 : List UInt8 := [167, 0, 6, 20, 0, 183, 173]
abbrev dktX0_antennaResistance_1 : List UInt8 := dkwX0_antennaResistance_1 ++ []
def dkwX0_antennaResistance_0 : List UInt8 := [42, 182, 0, 172, 153, 0, 21, 27, 184, 0, 176, 153, 0, 14, 42, 180, 0, 100, 27, 182, 0, 180]
abbrev dktX0_antennaResistance_0 : List UInt8 := dkwX0_antennaResistance_0 ++ dktX0_antennaResistance_1
theorem dksX0_antennaResistance_0 : cX0_antennaResistance.data.toList.drop 0 = dktX0_antennaResistance_0 := by decide +kernel
theorem dksX0_antennaResistance_1 : cX0_antennaResistance.data.toList.drop 22 = dktX0_antennaResistance_1 := dk_seg dksX0_antennaResistance_0 22 rfl rfl
theorem dX0_antennaResistance_0 : decode cX0_antennaResistance 0 = .ok (.aload_n 0, 1) := dk_42 (dk_at dksX0_antennaResistance_0 0 rfl rfl)
theorem dX0_antennaResistance_1 : decode cX0_antennaResistance 1 = .ok (.invokevirtual 172, 3) := dk_182 0 172 (dk_at dksX0_antennaResistance_0 1 rfl rfl)
theorem dX0_antennaResistance_4 : decode cX0_antennaResistance 4 = .ok (.ifCond .eq 21, 3) := dk_153 0 21 (dk_at dksX0_antennaResistance_0 4 rfl rfl)
theorem dX0_antennaResistance_7 : decode cX0_antennaResistance 7 = .ok (.iload_n 1, 1) := dk_27 (dk_at dksX0_antennaResistance_0 7 rfl rfl)
theorem dX0_antennaResistance_8 : decode cX0_antennaResistance 8 = .ok (.invokestatic 176, 3) := dk_184 0 176 (dk_at dksX0_antennaResistance_0 8 rfl rfl)
theorem dX0_antennaResistance_11 : decode cX0_antennaResistance 11 = .ok (.ifCond .eq 14, 3) := dk_153 0 14 (dk_at dksX0_antennaResistance_0 11 rfl rfl)
theorem dX0_antennaResistance_14 : decode cX0_antennaResistance 14 = .ok (.aload_n 0, 1) := dk_42 (dk_at dksX0_antennaResistance_0 14 rfl rfl)
theorem dX0_antennaResistance_15 : decode cX0_antennaResistance 15 = .ok (.getfield 100, 3) := dk_180 0 100 (dk_at dksX0_antennaResistance_0 15 rfl rfl)
theorem dX0_antennaResistance_18 : decode cX0_antennaResistance 18 = .ok (.iload_n 1, 1) := dk_27 (dk_at dksX0_antennaResistance_0 18 rfl rfl)
theorem dX0_antennaResistance_19 : decode cX0_antennaResistance 19 = .ok (.invokevirtual 180, 3) := dk_182 0 180 (dk_at dksX0_antennaResistance_0 19 rfl rfl)
theorem dX0_antennaResistance_22 : decode cX0_antennaResistance 22 = .ok (.goto 6, 3) := dk_167 0 6 (dk_at dksX0_antennaResistance_1 0 rfl rfl)
theorem dX0_antennaResistance_25 : decode cX0_antennaResistance 25 = .ok (.ldc2_w 183, 3) := dk_20 0 183 (dk_at dksX0_antennaResistance_1 3 rfl rfl)
theorem dX0_antennaResistance_28 : decode cX0_antennaResistance 28 = .ok (.lreturn, 1) := dk_173 (dk_at dksX0_antennaResistance_1 6 rfl rfl)
abbrev cX0_isReady : ByteArray := prog_1_method_6_code
def yX0_isReady : MethodName := ⟨RX0, "isReady", "()Z"⟩
def dkwX0_isReady_0 : List UInt8 := [42, 180, 0, 100, 198, 0, 7, 4, 167, 0, 4, 3, 172]
abbrev dktX0_isReady_0 : List UInt8 := dkwX0_isReady_0 ++ []
theorem dksX0_isReady_0 : cX0_isReady.data.toList.drop 0 = dktX0_isReady_0 := by decide +kernel
theorem dX0_isReady_0 : decode cX0_isReady 0 = .ok (.aload_n 0, 1) := dk_42 (dk_at dksX0_isReady_0 0 rfl rfl)
theorem dX0_isReady_1 : decode cX0_isReady 1 = .ok (.getfield 100, 3) := dk_180 0 100 (dk_at dksX0_isReady_0 1 rfl rfl)
theorem dX0_isReady_4 : decode cX0_isReady 4 = .ok (.ifnull 7, 3) := dk_198 0 7 (dk_at dksX0_isReady_0 4 rfl rfl)
theorem dX0_isReady_7 : decode cX0_isReady 7 = .ok (.iconst 1, 1) := dk_4 (dk_at dksX0_isReady_0 7 rfl rfl)
theorem dX0_isReady_8 : decode cX0_isReady 8 = .ok (.goto 4, 3) := dk_167 0 4 (dk_at dksX0_isReady_0 8 rfl rfl)
theorem dX0_isReady_11 : decode cX0_isReady 11 = .ok (.iconst 0, 1) := dk_3 (dk_at dksX0_isReady_0 11 rfl rfl)
theorem dX0_isReady_12 : decode cX0_isReady 12 = .ok (.ireturn, 1) := dk_172 (dk_at dksX0_isReady_0 12 rfl rfl)
abbrev cX0_isFrequency : ByteArray := prog_1_method_8_code
def yX0_isFrequency : MethodName := ⟨RX0, "isFrequency", "(I)Z"⟩
def dkwX0_isFrequency_0 : List UInt8 := [26, 17, 5, 220, 17, 117, 48, 184, 0, 125, 172]
abbrev dktX0_isFrequency_0 : List UInt8 := dkwX0_isFrequency_0 ++ []
theorem dksX0_isFrequency_0 : cX0_isFrequency.data.toList.drop 0 = dktX0_isFrequency_0 := by decide +kernel
theorem dX0_isFrequency_0 : decode cX0_isFrequency 0 = .ok (.iload_n 0, 1) := dk_26 (dk_at dksX0_isFrequency_0 0 rfl rfl)
theorem dX0_isFrequency_1 : decode cX0_isFrequency 1 = .ok (.sipush 1500, 3) := dk_17 5 220 (dk_at dksX0_isFrequency_0 1 rfl rfl)
theorem dX0_isFrequency_4 : decode cX0_isFrequency 4 = .ok (.sipush 30000, 3) := dk_17 117 48 (dk_at dksX0_isFrequency_0 4 rfl rfl)
theorem dX0_isFrequency_7 : decode cX0_isFrequency 7 = .ok (.invokestatic 125, 3) := dk_184 0 125 (dk_at dksX0_isFrequency_0 7 rfl rfl)
theorem dX0_isFrequency_10 : decode cX0_isFrequency 10 = .ok (.ireturn, 1) := dk_172 (dk_at dksX0_isFrequency_0 10 rfl rfl)
abbrev cX0_antennaReactance : ByteArray := prog_1_method_16_code
def yX0_antennaReactance : MethodName := ⟨RX0, "antennaReactance", "(I)J"⟩
def dkwX0_antennaReactance_1 : List UInt8 := [167, 0, 6, 20, 0, 187, 173]
abbrev dktX0_antennaReactance_1 : List UInt8 := dkwX0_antennaReactance_1 ++ []
def dkwX0_antennaReactance_0 : List UInt8 := [42, 182, 0, 172, 153, 0, 21, 27, 184, 0, 176, 153, 0, 14, 42, 180, 0, 100, 27, 182, 0, 185]
abbrev dktX0_antennaReactance_0 : List UInt8 := dkwX0_antennaReactance_0 ++ dktX0_antennaReactance_1
theorem dksX0_antennaReactance_0 : cX0_antennaReactance.data.toList.drop 0 = dktX0_antennaReactance_0 := by decide +kernel
theorem dksX0_antennaReactance_1 : cX0_antennaReactance.data.toList.drop 22 = dktX0_antennaReactance_1 := dk_seg dksX0_antennaReactance_0 22 rfl rfl
theorem dX0_antennaReactance_0 : decode cX0_antennaReactance 0 = .ok (.aload_n 0, 1) := dk_42 (dk_at dksX0_antennaReactance_0 0 rfl rfl)
theorem dX0_antennaReactance_1 : decode cX0_antennaReactance 1 = .ok (.invokevirtual 172, 3) := dk_182 0 172 (dk_at dksX0_antennaReactance_0 1 rfl rfl)
theorem dX0_antennaReactance_4 : decode cX0_antennaReactance 4 = .ok (.ifCond .eq 21, 3) := dk_153 0 21 (dk_at dksX0_antennaReactance_0 4 rfl rfl)
theorem dX0_antennaReactance_7 : decode cX0_antennaReactance 7 = .ok (.iload_n 1, 1) := dk_27 (dk_at dksX0_antennaReactance_0 7 rfl rfl)
theorem dX0_antennaReactance_8 : decode cX0_antennaReactance 8 = .ok (.invokestatic 176, 3) := dk_184 0 176 (dk_at dksX0_antennaReactance_0 8 rfl rfl)
theorem dX0_antennaReactance_11 : decode cX0_antennaReactance 11 = .ok (.ifCond .eq 14, 3) := dk_153 0 14 (dk_at dksX0_antennaReactance_0 11 rfl rfl)
theorem dX0_antennaReactance_14 : decode cX0_antennaReactance 14 = .ok (.aload_n 0, 1) := dk_42 (dk_at dksX0_antennaReactance_0 14 rfl rfl)
theorem dX0_antennaReactance_15 : decode cX0_antennaReactance 15 = .ok (.getfield 100, 3) := dk_180 0 100 (dk_at dksX0_antennaReactance_0 15 rfl rfl)
theorem dX0_antennaReactance_18 : decode cX0_antennaReactance 18 = .ok (.iload_n 1, 1) := dk_27 (dk_at dksX0_antennaReactance_0 18 rfl rfl)
theorem dX0_antennaReactance_19 : decode cX0_antennaReactance 19 = .ok (.invokevirtual 185, 3) := dk_182 0 185 (dk_at dksX0_antennaReactance_0 19 rfl rfl)
theorem dX0_antennaReactance_22 : decode cX0_antennaReactance 22 = .ok (.goto 6, 3) := dk_167 0 6 (dk_at dksX0_antennaReactance_1 0 rfl rfl)
theorem dX0_antennaReactance_25 : decode cX0_antennaReactance 25 = .ok (.ldc2_w 187, 3) := dk_20 0 187 (dk_at dksX0_antennaReactance_1 3 rfl rfl)
theorem dX0_antennaReactance_28 : decode cX0_antennaReactance 28 = .ok (.lreturn, 1) := dk_173 (dk_at dksX0_antennaReactance_1 6 rfl rfl)
abbrev cX0_resonance : ByteArray := prog_1_method_17_code
def yX0_resonance : MethodName := ⟨RX0, "resonance", "(I)I"⟩
def dkwX0_resonance_6 : List UInt8 := [172]
abbrev dktX0_resonance_6 : List UInt8 := dkwX0_resonance_6 ++ []
def dkwX0_resonance_5 : List UInt8 := [28, 21, 8, 153, 0, 7, 4, 167, 0, 4, 3, 100, 61, 22, 6, 66, 132, 5, 1, 167, 255, 152, 16, 254]
abbrev dktX0_resonance_5 : List UInt8 := dkwX0_resonance_5 ++ dktX0_resonance_6
def dkwX0_resonance_4 : List UInt8 := [9, 148, 156, 0, 7, 4, 167, 0, 4, 3, 54, 8, 21, 8, 153, 0, 10, 28, 154, 0, 6, 21, 5, 172]
abbrev dktX0_resonance_4 : List UInt8 := dkwX0_resonance_4 ++ dktX0_resonance_5
def dkwX0_resonance_3 : List UInt8 := [153, 0, 29, 33, 9, 148, 156, 0, 10, 22, 6, 9, 148, 157, 0, 16, 33, 9, 148, 158, 0, 14, 22, 6]
abbrev dktX0_resonance_3 : List UInt8 := dkwX0_resonance_3 ++ dktX0_resonance_4
def dkwX0_resonance_2 : List UInt8 := [180, 0, 169, 4, 100, 46, 163, 0, 88, 42, 180, 0, 100, 21, 5, 182, 0, 185, 55, 6, 22, 6, 9, 148]
abbrev dktX0_resonance_2 : List UInt8 := dkwX0_resonance_2 ++ dktX0_resonance_3
def dkwX0_resonance_1 : List UInt8 := [180, 0, 100, 180, 0, 151, 3, 46, 54, 5, 21, 5, 42, 180, 0, 100, 180, 0, 151, 42, 180, 0, 100]
abbrev dktX0_resonance_1 : List UInt8 := dkwX0_resonance_1 ++ dktX0_resonance_2
def dkwX0_resonance_0 : List UInt8 := [42, 182, 0, 172, 153, 0, 13, 27, 3, 16, 100, 184, 0, 125, 154, 0, 5, 2, 172, 27, 61, 9, 66, 42]
abbrev dktX0_resonance_0 : List UInt8 := dkwX0_resonance_0 ++ dktX0_resonance_1
theorem dksX0_resonance_0 : cX0_resonance.data.toList.drop 0 = dktX0_resonance_0 := by decide +kernel
theorem dksX0_resonance_1 : cX0_resonance.data.toList.drop 24 = dktX0_resonance_1 := dk_seg dksX0_resonance_0 24 rfl rfl
theorem dksX0_resonance_2 : cX0_resonance.data.toList.drop 47 = dktX0_resonance_2 := dk_seg dksX0_resonance_1 23 rfl rfl
theorem dksX0_resonance_3 : cX0_resonance.data.toList.drop 71 = dktX0_resonance_3 := dk_seg dksX0_resonance_2 24 rfl rfl
theorem dksX0_resonance_4 : cX0_resonance.data.toList.drop 95 = dktX0_resonance_4 := dk_seg dksX0_resonance_3 24 rfl rfl
theorem dksX0_resonance_5 : cX0_resonance.data.toList.drop 119 = dktX0_resonance_5 := dk_seg dksX0_resonance_4 24 rfl rfl
theorem dksX0_resonance_6 : cX0_resonance.data.toList.drop 143 = dktX0_resonance_6 := dk_seg dksX0_resonance_5 24 rfl rfl
theorem dX0_resonance_0 : decode cX0_resonance 0 = .ok (.aload_n 0, 1) := dk_42 (dk_at dksX0_resonance_0 0 rfl rfl)
theorem dX0_resonance_1 : decode cX0_resonance 1 = .ok (.invokevirtual 172, 3) := dk_182 0 172 (dk_at dksX0_resonance_0 1 rfl rfl)
theorem dX0_resonance_4 : decode cX0_resonance 4 = .ok (.ifCond .eq 13, 3) := dk_153 0 13 (dk_at dksX0_resonance_0 4 rfl rfl)
theorem dX0_resonance_7 : decode cX0_resonance 7 = .ok (.iload_n 1, 1) := dk_27 (dk_at dksX0_resonance_0 7 rfl rfl)
theorem dX0_resonance_8 : decode cX0_resonance 8 = .ok (.iconst 0, 1) := dk_3 (dk_at dksX0_resonance_0 8 rfl rfl)
theorem dX0_resonance_9 : decode cX0_resonance 9 = .ok (.bipush 100, 2) := dk_16 100 (dk_at dksX0_resonance_0 9 rfl rfl)
theorem dX0_resonance_11 : decode cX0_resonance 11 = .ok (.invokestatic 125, 3) := dk_184 0 125 (dk_at dksX0_resonance_0 11 rfl rfl)
theorem dX0_resonance_14 : decode cX0_resonance 14 = .ok (.ifCond .ne 5, 3) := dk_154 0 5 (dk_at dksX0_resonance_0 14 rfl rfl)
theorem dX0_resonance_17 : decode cX0_resonance 17 = .ok (.iconst (-1), 1) := dk_2 (dk_at dksX0_resonance_0 17 rfl rfl)
theorem dX0_resonance_18 : decode cX0_resonance 18 = .ok (.ireturn, 1) := dk_172 (dk_at dksX0_resonance_0 18 rfl rfl)
theorem dX0_resonance_19 : decode cX0_resonance 19 = .ok (.iload_n 1, 1) := dk_27 (dk_at dksX0_resonance_0 19 rfl rfl)
theorem dX0_resonance_20 : decode cX0_resonance 20 = .ok (.istore_n 2, 1) := dk_61 (dk_at dksX0_resonance_0 20 rfl rfl)
theorem dX0_resonance_21 : decode cX0_resonance 21 = .ok (.lconst 0, 1) := dk_9 (dk_at dksX0_resonance_0 21 rfl rfl)
theorem dX0_resonance_22 : decode cX0_resonance 22 = .ok (.lstore_n 3, 1) := dk_66 (dk_at dksX0_resonance_0 22 rfl rfl)
theorem dX0_resonance_23 : decode cX0_resonance 23 = .ok (.aload_n 0, 1) := dk_42 (dk_at dksX0_resonance_0 23 rfl rfl)
theorem dX0_resonance_24 : decode cX0_resonance 24 = .ok (.getfield 100, 3) := dk_180 0 100 (dk_at dksX0_resonance_1 0 rfl rfl)
theorem dX0_resonance_27 : decode cX0_resonance 27 = .ok (.getfield 151, 3) := dk_180 0 151 (dk_at dksX0_resonance_1 3 rfl rfl)
theorem dX0_resonance_30 : decode cX0_resonance 30 = .ok (.iconst 0, 1) := dk_3 (dk_at dksX0_resonance_1 6 rfl rfl)
theorem dX0_resonance_31 : decode cX0_resonance 31 = .ok (.iaload, 1) := dk_46 (dk_at dksX0_resonance_1 7 rfl rfl)
theorem dX0_resonance_32 : decode cX0_resonance 32 = .ok (.istore 5, 2) := dk_54 5 (dk_at dksX0_resonance_1 8 rfl rfl)
theorem dX0_resonance_34 : decode cX0_resonance 34 = .ok (.iload 5, 2) := dk_21 5 (dk_at dksX0_resonance_1 10 rfl rfl)
theorem dX0_resonance_36 : decode cX0_resonance 36 = .ok (.aload_n 0, 1) := dk_42 (dk_at dksX0_resonance_1 12 rfl rfl)
theorem dX0_resonance_37 : decode cX0_resonance 37 = .ok (.getfield 100, 3) := dk_180 0 100 (dk_at dksX0_resonance_1 13 rfl rfl)
theorem dX0_resonance_40 : decode cX0_resonance 40 = .ok (.getfield 151, 3) := dk_180 0 151 (dk_at dksX0_resonance_1 16 rfl rfl)
theorem dX0_resonance_43 : decode cX0_resonance 43 = .ok (.aload_n 0, 1) := dk_42 (dk_at dksX0_resonance_1 19 rfl rfl)
theorem dX0_resonance_44 : decode cX0_resonance 44 = .ok (.getfield 100, 3) := dk_180 0 100 (dk_at dksX0_resonance_1 20 rfl rfl)
theorem dX0_resonance_47 : decode cX0_resonance 47 = .ok (.getfield 169, 3) := dk_180 0 169 (dk_at dksX0_resonance_2 0 rfl rfl)
theorem dX0_resonance_50 : decode cX0_resonance 50 = .ok (.iconst 1, 1) := dk_4 (dk_at dksX0_resonance_2 3 rfl rfl)
theorem dX0_resonance_51 : decode cX0_resonance 51 = .ok (.isub, 1) := dk_100 (dk_at dksX0_resonance_2 4 rfl rfl)
theorem dX0_resonance_52 : decode cX0_resonance 52 = .ok (.iaload, 1) := dk_46 (dk_at dksX0_resonance_2 5 rfl rfl)
theorem dX0_resonance_53 : decode cX0_resonance 53 = .ok (.if_icmp .gt 88, 3) := dk_163 0 88 (dk_at dksX0_resonance_2 6 rfl rfl)
theorem dX0_resonance_56 : decode cX0_resonance 56 = .ok (.aload_n 0, 1) := dk_42 (dk_at dksX0_resonance_2 9 rfl rfl)
theorem dX0_resonance_57 : decode cX0_resonance 57 = .ok (.getfield 100, 3) := dk_180 0 100 (dk_at dksX0_resonance_2 10 rfl rfl)
theorem dX0_resonance_60 : decode cX0_resonance 60 = .ok (.iload 5, 2) := dk_21 5 (dk_at dksX0_resonance_2 13 rfl rfl)
theorem dX0_resonance_62 : decode cX0_resonance 62 = .ok (.invokevirtual 185, 3) := dk_182 0 185 (dk_at dksX0_resonance_2 15 rfl rfl)
theorem dX0_resonance_65 : decode cX0_resonance 65 = .ok (.lstore 6, 2) := dk_55 6 (dk_at dksX0_resonance_2 18 rfl rfl)
theorem dX0_resonance_67 : decode cX0_resonance 67 = .ok (.lload 6, 2) := dk_22 6 (dk_at dksX0_resonance_2 20 rfl rfl)
theorem dX0_resonance_69 : decode cX0_resonance 69 = .ok (.lconst 0, 1) := dk_9 (dk_at dksX0_resonance_2 22 rfl rfl)
theorem dX0_resonance_70 : decode cX0_resonance 70 = .ok (.lcmp, 1) := dk_148 (dk_at dksX0_resonance_2 23 rfl rfl)
theorem dX0_resonance_71 : decode cX0_resonance 71 = .ok (.ifCond .eq 29, 3) := dk_153 0 29 (dk_at dksX0_resonance_3 0 rfl rfl)
theorem dX0_resonance_74 : decode cX0_resonance 74 = .ok (.lload_n 3, 1) := dk_33 (dk_at dksX0_resonance_3 3 rfl rfl)
theorem dX0_resonance_75 : decode cX0_resonance 75 = .ok (.lconst 0, 1) := dk_9 (dk_at dksX0_resonance_3 4 rfl rfl)
theorem dX0_resonance_76 : decode cX0_resonance 76 = .ok (.lcmp, 1) := dk_148 (dk_at dksX0_resonance_3 5 rfl rfl)
theorem dX0_resonance_77 : decode cX0_resonance 77 = .ok (.ifCond .ge 10, 3) := dk_156 0 10 (dk_at dksX0_resonance_3 6 rfl rfl)
theorem dX0_resonance_80 : decode cX0_resonance 80 = .ok (.lload 6, 2) := dk_22 6 (dk_at dksX0_resonance_3 9 rfl rfl)
theorem dX0_resonance_82 : decode cX0_resonance 82 = .ok (.lconst 0, 1) := dk_9 (dk_at dksX0_resonance_3 11 rfl rfl)
theorem dX0_resonance_83 : decode cX0_resonance 83 = .ok (.lcmp, 1) := dk_148 (dk_at dksX0_resonance_3 12 rfl rfl)
theorem dX0_resonance_84 : decode cX0_resonance 84 = .ok (.ifCond .gt 16, 3) := dk_157 0 16 (dk_at dksX0_resonance_3 13 rfl rfl)
theorem dX0_resonance_87 : decode cX0_resonance 87 = .ok (.lload_n 3, 1) := dk_33 (dk_at dksX0_resonance_3 16 rfl rfl)
theorem dX0_resonance_88 : decode cX0_resonance 88 = .ok (.lconst 0, 1) := dk_9 (dk_at dksX0_resonance_3 17 rfl rfl)
theorem dX0_resonance_89 : decode cX0_resonance 89 = .ok (.lcmp, 1) := dk_148 (dk_at dksX0_resonance_3 18 rfl rfl)
theorem dX0_resonance_90 : decode cX0_resonance 90 = .ok (.ifCond .le 14, 3) := dk_158 0 14 (dk_at dksX0_resonance_3 19 rfl rfl)
theorem dX0_resonance_93 : decode cX0_resonance 93 = .ok (.lload 6, 2) := dk_22 6 (dk_at dksX0_resonance_3 22 rfl rfl)
theorem dX0_resonance_95 : decode cX0_resonance 95 = .ok (.lconst 0, 1) := dk_9 (dk_at dksX0_resonance_4 0 rfl rfl)
theorem dX0_resonance_96 : decode cX0_resonance 96 = .ok (.lcmp, 1) := dk_148 (dk_at dksX0_resonance_4 1 rfl rfl)
theorem dX0_resonance_97 : decode cX0_resonance 97 = .ok (.ifCond .ge 7, 3) := dk_156 0 7 (dk_at dksX0_resonance_4 2 rfl rfl)
theorem dX0_resonance_100 : decode cX0_resonance 100 = .ok (.iconst 1, 1) := dk_4 (dk_at dksX0_resonance_4 5 rfl rfl)
theorem dX0_resonance_101 : decode cX0_resonance 101 = .ok (.goto 4, 3) := dk_167 0 4 (dk_at dksX0_resonance_4 6 rfl rfl)
theorem dX0_resonance_104 : decode cX0_resonance 104 = .ok (.iconst 0, 1) := dk_3 (dk_at dksX0_resonance_4 9 rfl rfl)
theorem dX0_resonance_105 : decode cX0_resonance 105 = .ok (.istore 8, 2) := dk_54 8 (dk_at dksX0_resonance_4 10 rfl rfl)
theorem dX0_resonance_107 : decode cX0_resonance 107 = .ok (.iload 8, 2) := dk_21 8 (dk_at dksX0_resonance_4 12 rfl rfl)
theorem dX0_resonance_109 : decode cX0_resonance 109 = .ok (.ifCond .eq 10, 3) := dk_153 0 10 (dk_at dksX0_resonance_4 14 rfl rfl)
theorem dX0_resonance_112 : decode cX0_resonance 112 = .ok (.iload_n 2, 1) := dk_28 (dk_at dksX0_resonance_4 17 rfl rfl)
theorem dX0_resonance_113 : decode cX0_resonance 113 = .ok (.ifCond .ne 6, 3) := dk_154 0 6 (dk_at dksX0_resonance_4 18 rfl rfl)
theorem dX0_resonance_116 : decode cX0_resonance 116 = .ok (.iload 5, 2) := dk_21 5 (dk_at dksX0_resonance_4 21 rfl rfl)
theorem dX0_resonance_118 : decode cX0_resonance 118 = .ok (.ireturn, 1) := dk_172 (dk_at dksX0_resonance_4 23 rfl rfl)
theorem dX0_resonance_119 : decode cX0_resonance 119 = .ok (.iload_n 2, 1) := dk_28 (dk_at dksX0_resonance_5 0 rfl rfl)
theorem dX0_resonance_120 : decode cX0_resonance 120 = .ok (.iload 8, 2) := dk_21 8 (dk_at dksX0_resonance_5 1 rfl rfl)
theorem dX0_resonance_122 : decode cX0_resonance 122 = .ok (.ifCond .eq 7, 3) := dk_153 0 7 (dk_at dksX0_resonance_5 3 rfl rfl)
theorem dX0_resonance_125 : decode cX0_resonance 125 = .ok (.iconst 1, 1) := dk_4 (dk_at dksX0_resonance_5 6 rfl rfl)
theorem dX0_resonance_126 : decode cX0_resonance 126 = .ok (.goto 4, 3) := dk_167 0 4 (dk_at dksX0_resonance_5 7 rfl rfl)
theorem dX0_resonance_129 : decode cX0_resonance 129 = .ok (.iconst 0, 1) := dk_3 (dk_at dksX0_resonance_5 10 rfl rfl)
theorem dX0_resonance_130 : decode cX0_resonance 130 = .ok (.isub, 1) := dk_100 (dk_at dksX0_resonance_5 11 rfl rfl)
theorem dX0_resonance_131 : decode cX0_resonance 131 = .ok (.istore_n 2, 1) := dk_61 (dk_at dksX0_resonance_5 12 rfl rfl)
theorem dX0_resonance_132 : decode cX0_resonance 132 = .ok (.lload 6, 2) := dk_22 6 (dk_at dksX0_resonance_5 13 rfl rfl)
theorem dX0_resonance_134 : decode cX0_resonance 134 = .ok (.lstore_n 3, 1) := dk_66 (dk_at dksX0_resonance_5 15 rfl rfl)
theorem dX0_resonance_135 : decode cX0_resonance 135 = .ok (.iinc 5 1, 3) := dk_132 5 1 (dk_at dksX0_resonance_5 16 rfl rfl)
theorem dX0_resonance_138 : decode cX0_resonance 138 = .ok (.goto (-104), 3) := dk_167 255 152 (dk_at dksX0_resonance_5 19 rfl rfl)
theorem dX0_resonance_141 : decode cX0_resonance 141 = .ok (.bipush (-2), 2) := dk_16 254 (dk_at dksX0_resonance_5 22 rfl rfl)
theorem dX0_resonance_143 : decode cX0_resonance 143 = .ok (.ireturn, 1) := dk_172 (dk_at dksX0_resonance_6 0 rfl rfl)
abbrev cX0_bandOf : ByteArray := prog_1_method_18_code
def yX0_bandOf : MethodName := ⟨RX0, "bandOf", "(I)I"⟩
def dkwX0_bandOf_1 : List UInt8 := [167, 0, 4, 2, 172]
abbrev dktX0_bandOf_1 : List UInt8 := dkwX0_bandOf_1 ++ []
def dkwX0_bandOf_0 : List UInt8 := [42, 182, 0, 172, 153, 0, 21, 27, 184, 0, 176, 153, 0, 14, 42, 180, 0, 100, 27, 182, 0, 189]
abbrev dktX0_bandOf_0 : List UInt8 := dkwX0_bandOf_0 ++ dktX0_bandOf_1
theorem dksX0_bandOf_0 : cX0_bandOf.data.toList.drop 0 = dktX0_bandOf_0 := by decide +kernel
theorem dksX0_bandOf_1 : cX0_bandOf.data.toList.drop 22 = dktX0_bandOf_1 := dk_seg dksX0_bandOf_0 22 rfl rfl
theorem dX0_bandOf_0 : decode cX0_bandOf 0 = .ok (.aload_n 0, 1) := dk_42 (dk_at dksX0_bandOf_0 0 rfl rfl)
theorem dX0_bandOf_1 : decode cX0_bandOf 1 = .ok (.invokevirtual 172, 3) := dk_182 0 172 (dk_at dksX0_bandOf_0 1 rfl rfl)
theorem dX0_bandOf_4 : decode cX0_bandOf 4 = .ok (.ifCond .eq 21, 3) := dk_153 0 21 (dk_at dksX0_bandOf_0 4 rfl rfl)
theorem dX0_bandOf_7 : decode cX0_bandOf 7 = .ok (.iload_n 1, 1) := dk_27 (dk_at dksX0_bandOf_0 7 rfl rfl)
theorem dX0_bandOf_8 : decode cX0_bandOf 8 = .ok (.invokestatic 176, 3) := dk_184 0 176 (dk_at dksX0_bandOf_0 8 rfl rfl)
theorem dX0_bandOf_11 : decode cX0_bandOf 11 = .ok (.ifCond .eq 14, 3) := dk_153 0 14 (dk_at dksX0_bandOf_0 11 rfl rfl)
theorem dX0_bandOf_14 : decode cX0_bandOf 14 = .ok (.aload_n 0, 1) := dk_42 (dk_at dksX0_bandOf_0 14 rfl rfl)
theorem dX0_bandOf_15 : decode cX0_bandOf 15 = .ok (.getfield 100, 3) := dk_180 0 100 (dk_at dksX0_bandOf_0 15 rfl rfl)
theorem dX0_bandOf_18 : decode cX0_bandOf 18 = .ok (.iload_n 1, 1) := dk_27 (dk_at dksX0_bandOf_0 18 rfl rfl)
theorem dX0_bandOf_19 : decode cX0_bandOf 19 = .ok (.invokevirtual 189, 3) := dk_182 0 189 (dk_at dksX0_bandOf_0 19 rfl rfl)
theorem dX0_bandOf_22 : decode cX0_bandOf 22 = .ok (.goto 4, 3) := dk_167 0 4 (dk_at dksX0_bandOf_1 0 rfl rfl)
theorem dX0_bandOf_25 : decode cX0_bandOf 25 = .ok (.iconst (-1), 1) := dk_2 (dk_at dksX0_bandOf_1 3 rfl rfl)
theorem dX0_bandOf_26 : decode cX0_bandOf 26 = .ok (.ireturn, 1) := dk_172 (dk_at dksX0_bandOf_1 4 rfl rfl)
abbrev cX0_setFrequency : ByteArray := prog_1_method_19_code
def yX0_setFrequency : MethodName := ⟨RX0, "setFrequency", "(I)I"⟩
def dkwX0_setFrequency_1 : List UInt8 := [180, 0, 196, 61, 42, 180, 0, 114, 27, 182, 0, 199, 28, 172]
abbrev dktX0_setFrequency_1 : List UInt8 := dkwX0_setFrequency_1 ++ []
def dkwX0_setFrequency_0 : List UInt8 := [42, 182, 0, 172, 153, 0, 10, 27, 184, 0, 176, 154, 0, 5, 2, 172, 42, 182, 0, 193, 42, 180, 0, 114]
abbrev dktX0_setFrequency_0 : List UInt8 := dkwX0_setFrequency_0 ++ dktX0_setFrequency_1
theorem dksX0_setFrequency_0 : cX0_setFrequency.data.toList.drop 0 = dktX0_setFrequency_0 := by decide +kernel
theorem dksX0_setFrequency_1 : cX0_setFrequency.data.toList.drop 24 = dktX0_setFrequency_1 := dk_seg dksX0_setFrequency_0 24 rfl rfl
theorem dX0_setFrequency_0 : decode cX0_setFrequency 0 = .ok (.aload_n 0, 1) := dk_42 (dk_at dksX0_setFrequency_0 0 rfl rfl)
theorem dX0_setFrequency_1 : decode cX0_setFrequency 1 = .ok (.invokevirtual 172, 3) := dk_182 0 172 (dk_at dksX0_setFrequency_0 1 rfl rfl)
theorem dX0_setFrequency_4 : decode cX0_setFrequency 4 = .ok (.ifCond .eq 10, 3) := dk_153 0 10 (dk_at dksX0_setFrequency_0 4 rfl rfl)
theorem dX0_setFrequency_7 : decode cX0_setFrequency 7 = .ok (.iload_n 1, 1) := dk_27 (dk_at dksX0_setFrequency_0 7 rfl rfl)
theorem dX0_setFrequency_8 : decode cX0_setFrequency 8 = .ok (.invokestatic 176, 3) := dk_184 0 176 (dk_at dksX0_setFrequency_0 8 rfl rfl)
theorem dX0_setFrequency_11 : decode cX0_setFrequency 11 = .ok (.ifCond .ne 5, 3) := dk_154 0 5 (dk_at dksX0_setFrequency_0 11 rfl rfl)
theorem dX0_setFrequency_14 : decode cX0_setFrequency 14 = .ok (.iconst (-1), 1) := dk_2 (dk_at dksX0_setFrequency_0 14 rfl rfl)
theorem dX0_setFrequency_15 : decode cX0_setFrequency 15 = .ok (.ireturn, 1) := dk_172 (dk_at dksX0_setFrequency_0 15 rfl rfl)
theorem dX0_setFrequency_16 : decode cX0_setFrequency 16 = .ok (.aload_n 0, 1) := dk_42 (dk_at dksX0_setFrequency_0 16 rfl rfl)
theorem dX0_setFrequency_17 : decode cX0_setFrequency 17 = .ok (.invokevirtual 193, 3) := dk_182 0 193 (dk_at dksX0_setFrequency_0 17 rfl rfl)
theorem dX0_setFrequency_20 : decode cX0_setFrequency 20 = .ok (.aload_n 0, 1) := dk_42 (dk_at dksX0_setFrequency_0 20 rfl rfl)
theorem dX0_setFrequency_21 : decode cX0_setFrequency 21 = .ok (.getfield 114, 3) := dk_180 0 114 (dk_at dksX0_setFrequency_0 21 rfl rfl)
theorem dX0_setFrequency_24 : decode cX0_setFrequency 24 = .ok (.getfield 196, 3) := dk_180 0 196 (dk_at dksX0_setFrequency_1 0 rfl rfl)
theorem dX0_setFrequency_27 : decode cX0_setFrequency 27 = .ok (.istore_n 2, 1) := dk_61 (dk_at dksX0_setFrequency_1 3 rfl rfl)
theorem dX0_setFrequency_28 : decode cX0_setFrequency 28 = .ok (.aload_n 0, 1) := dk_42 (dk_at dksX0_setFrequency_1 4 rfl rfl)
theorem dX0_setFrequency_29 : decode cX0_setFrequency 29 = .ok (.getfield 114, 3) := dk_180 0 114 (dk_at dksX0_setFrequency_1 5 rfl rfl)
theorem dX0_setFrequency_32 : decode cX0_setFrequency 32 = .ok (.iload_n 1, 1) := dk_27 (dk_at dksX0_setFrequency_1 8 rfl rfl)
theorem dX0_setFrequency_33 : decode cX0_setFrequency 33 = .ok (.invokevirtual 199, 3) := dk_182 0 199 (dk_at dksX0_setFrequency_1 9 rfl rfl)
theorem dX0_setFrequency_36 : decode cX0_setFrequency 36 = .ok (.iload_n 2, 1) := dk_28 (dk_at dksX0_setFrequency_1 12 rfl rfl)
theorem dX0_setFrequency_37 : decode cX0_setFrequency 37 = .ok (.ireturn, 1) := dk_172 (dk_at dksX0_setFrequency_1 13 rfl rfl)
abbrev cX0_remember : ByteArray := prog_1_method_7_code
def yX0_remember : MethodName := ⟨RX0, "remember", "()V"⟩
def dkwX0_remember_1 : List UInt8 := [187, 0, 112, 89, 42, 180, 0, 114, 183, 0, 118, 182, 0, 121, 177]
abbrev dktX0_remember_1 : List UInt8 := dkwX0_remember_1 ++ []
def dkwX0_remember_0 : List UInt8 := [42, 180, 0, 96, 182, 0, 104, 16, 12, 160, 0, 11, 42, 180, 0, 96, 182, 0, 108, 87, 42, 180, 0, 96]
abbrev dktX0_remember_0 : List UInt8 := dkwX0_remember_0 ++ dktX0_remember_1
theorem dksX0_remember_0 : cX0_remember.data.toList.drop 0 = dktX0_remember_0 := by decide +kernel
theorem dksX0_remember_1 : cX0_remember.data.toList.drop 24 = dktX0_remember_1 := dk_seg dksX0_remember_0 24 rfl rfl
theorem dX0_remember_0 : decode cX0_remember 0 = .ok (.aload_n 0, 1) := dk_42 (dk_at dksX0_remember_0 0 rfl rfl)
theorem dX0_remember_1 : decode cX0_remember 1 = .ok (.getfield 96, 3) := dk_180 0 96 (dk_at dksX0_remember_0 1 rfl rfl)
theorem dX0_remember_4 : decode cX0_remember 4 = .ok (.invokevirtual 104, 3) := dk_182 0 104 (dk_at dksX0_remember_0 4 rfl rfl)
theorem dX0_remember_7 : decode cX0_remember 7 = .ok (.bipush 12, 2) := dk_16 12 (dk_at dksX0_remember_0 7 rfl rfl)
theorem dX0_remember_9 : decode cX0_remember 9 = .ok (.if_icmp .ne 11, 3) := dk_160 0 11 (dk_at dksX0_remember_0 9 rfl rfl)
theorem dX0_remember_12 : decode cX0_remember 12 = .ok (.aload_n 0, 1) := dk_42 (dk_at dksX0_remember_0 12 rfl rfl)
theorem dX0_remember_13 : decode cX0_remember 13 = .ok (.getfield 96, 3) := dk_180 0 96 (dk_at dksX0_remember_0 13 rfl rfl)
theorem dX0_remember_16 : decode cX0_remember 16 = .ok (.invokevirtual 108, 3) := dk_182 0 108 (dk_at dksX0_remember_0 16 rfl rfl)
theorem dX0_remember_19 : decode cX0_remember 19 = .ok (.pop, 1) := dk_87 (dk_at dksX0_remember_0 19 rfl rfl)
theorem dX0_remember_20 : decode cX0_remember 20 = .ok (.aload_n 0, 1) := dk_42 (dk_at dksX0_remember_0 20 rfl rfl)
theorem dX0_remember_21 : decode cX0_remember 21 = .ok (.getfield 96, 3) := dk_180 0 96 (dk_at dksX0_remember_0 21 rfl rfl)
theorem dX0_remember_24 : decode cX0_remember 24 = .ok (.new 112, 3) := dk_187 0 112 (dk_at dksX0_remember_1 0 rfl rfl)
theorem dX0_remember_27 : decode cX0_remember 27 = .ok (.dup, 1) := dk_89 (dk_at dksX0_remember_1 3 rfl rfl)
theorem dX0_remember_28 : decode cX0_remember 28 = .ok (.aload_n 0, 1) := dk_42 (dk_at dksX0_remember_1 4 rfl rfl)
theorem dX0_remember_29 : decode cX0_remember 29 = .ok (.getfield 114, 3) := dk_180 0 114 (dk_at dksX0_remember_1 5 rfl rfl)
theorem dX0_remember_32 : decode cX0_remember 32 = .ok (.invokespecial 118, 3) := dk_183 0 118 (dk_at dksX0_remember_1 8 rfl rfl)
theorem dX0_remember_35 : decode cX0_remember 35 = .ok (.invokevirtual 121, 3) := dk_182 0 121 (dk_at dksX0_remember_1 11 rfl rfl)
theorem dX0_remember_38 : decode cX0_remember 38 = .ok (.return_, 1) := dk_177 (dk_at dksX0_remember_1 14 rfl rfl)
abbrev cX0_setSide : ByteArray := prog_1_method_22_code
def yX0_setSide : MethodName := ⟨RX0, "setSide", "(I)I"⟩
def dkwX0_setSide_1 : List UInt8 := [187, 0, 206, 89, 27, 44, 180, 0, 220, 44, 180, 0, 222, 183, 0, 225, 182, 0, 228, 44, 180, 0, 232, 172]
abbrev dktX0_setSide_1 : List UInt8 := dkwX0_setSide_1 ++ []
def dkwX0_setSide_0 : List UInt8 := [42, 182, 0, 172, 153, 0, 12, 27, 3, 4, 184, 0, 125, 154, 0, 5, 2, 172, 42, 182, 0, 216, 77, 42]
abbrev dktX0_setSide_0 : List UInt8 := dkwX0_setSide_0 ++ dktX0_setSide_1
theorem dksX0_setSide_0 : cX0_setSide.data.toList.drop 0 = dktX0_setSide_0 := by decide +kernel
theorem dksX0_setSide_1 : cX0_setSide.data.toList.drop 24 = dktX0_setSide_1 := dk_seg dksX0_setSide_0 24 rfl rfl
theorem dX0_setSide_0 : decode cX0_setSide 0 = .ok (.aload_n 0, 1) := dk_42 (dk_at dksX0_setSide_0 0 rfl rfl)
theorem dX0_setSide_1 : decode cX0_setSide 1 = .ok (.invokevirtual 172, 3) := dk_182 0 172 (dk_at dksX0_setSide_0 1 rfl rfl)
theorem dX0_setSide_4 : decode cX0_setSide 4 = .ok (.ifCond .eq 12, 3) := dk_153 0 12 (dk_at dksX0_setSide_0 4 rfl rfl)
theorem dX0_setSide_7 : decode cX0_setSide 7 = .ok (.iload_n 1, 1) := dk_27 (dk_at dksX0_setSide_0 7 rfl rfl)
theorem dX0_setSide_8 : decode cX0_setSide 8 = .ok (.iconst 0, 1) := dk_3 (dk_at dksX0_setSide_0 8 rfl rfl)
theorem dX0_setSide_9 : decode cX0_setSide 9 = .ok (.iconst 1, 1) := dk_4 (dk_at dksX0_setSide_0 9 rfl rfl)
theorem dX0_setSide_10 : decode cX0_setSide 10 = .ok (.invokestatic 125, 3) := dk_184 0 125 (dk_at dksX0_setSide_0 10 rfl rfl)
theorem dX0_setSide_13 : decode cX0_setSide 13 = .ok (.ifCond .ne 5, 3) := dk_154 0 5 (dk_at dksX0_setSide_0 13 rfl rfl)
theorem dX0_setSide_16 : decode cX0_setSide 16 = .ok (.iconst (-1), 1) := dk_2 (dk_at dksX0_setSide_0 16 rfl rfl)
theorem dX0_setSide_17 : decode cX0_setSide 17 = .ok (.ireturn, 1) := dk_172 (dk_at dksX0_setSide_0 17 rfl rfl)
theorem dX0_setSide_18 : decode cX0_setSide 18 = .ok (.aload_n 0, 1) := dk_42 (dk_at dksX0_setSide_0 18 rfl rfl)
theorem dX0_setSide_19 : decode cX0_setSide 19 = .ok (.invokevirtual 216, 3) := dk_182 0 216 (dk_at dksX0_setSide_0 19 rfl rfl)
theorem dX0_setSide_22 : decode cX0_setSide 22 = .ok (.astore_n 2, 1) := dk_77 (dk_at dksX0_setSide_0 22 rfl rfl)
theorem dX0_setSide_23 : decode cX0_setSide 23 = .ok (.aload_n 0, 1) := dk_42 (dk_at dksX0_setSide_0 23 rfl rfl)
theorem dX0_setSide_24 : decode cX0_setSide 24 = .ok (.new 206, 3) := dk_187 0 206 (dk_at dksX0_setSide_1 0 rfl rfl)
theorem dX0_setSide_27 : decode cX0_setSide 27 = .ok (.dup, 1) := dk_89 (dk_at dksX0_setSide_1 3 rfl rfl)
theorem dX0_setSide_28 : decode cX0_setSide 28 = .ok (.iload_n 1, 1) := dk_27 (dk_at dksX0_setSide_1 4 rfl rfl)
theorem dX0_setSide_29 : decode cX0_setSide 29 = .ok (.aload_n 2, 1) := dk_44 (dk_at dksX0_setSide_1 5 rfl rfl)
theorem dX0_setSide_30 : decode cX0_setSide 30 = .ok (.getfield 220, 3) := dk_180 0 220 (dk_at dksX0_setSide_1 6 rfl rfl)
theorem dX0_setSide_33 : decode cX0_setSide 33 = .ok (.aload_n 2, 1) := dk_44 (dk_at dksX0_setSide_1 9 rfl rfl)
theorem dX0_setSide_34 : decode cX0_setSide 34 = .ok (.getfield 222, 3) := dk_180 0 222 (dk_at dksX0_setSide_1 10 rfl rfl)
theorem dX0_setSide_37 : decode cX0_setSide 37 = .ok (.invokespecial 225, 3) := dk_183 0 225 (dk_at dksX0_setSide_1 13 rfl rfl)
theorem dX0_setSide_40 : decode cX0_setSide 40 = .ok (.invokevirtual 228, 3) := dk_182 0 228 (dk_at dksX0_setSide_1 16 rfl rfl)
theorem dX0_setSide_43 : decode cX0_setSide 43 = .ok (.aload_n 2, 1) := dk_44 (dk_at dksX0_setSide_1 19 rfl rfl)
theorem dX0_setSide_44 : decode cX0_setSide 44 = .ok (.getfield 232, 3) := dk_180 0 232 (dk_at dksX0_setSide_1 20 rfl rfl)
theorem dX0_setSide_47 : decode cX0_setSide 47 = .ok (.ireturn, 1) := dk_172 (dk_at dksX0_setSide_1 23 rfl rfl)
abbrev cX0_present : ByteArray := prog_1_method_20_code
def yX0_present : MethodName := ⟨RX0, "present", "()LAntennaTuner$Setting;"⟩
def dkwX0_present_0 : List UInt8 := [42, 180, 0, 114, 180, 0, 202, 184, 0, 205, 176]
abbrev dktX0_present_0 : List UInt8 := dkwX0_present_0 ++ []
theorem dksX0_present_0 : cX0_present.data.toList.drop 0 = dktX0_present_0 := by decide +kernel
theorem dX0_present_0 : decode cX0_present 0 = .ok (.aload_n 0, 1) := dk_42 (dk_at dksX0_present_0 0 rfl rfl)
theorem dX0_present_1 : decode cX0_present 1 = .ok (.getfield 114, 3) := dk_180 0 114 (dk_at dksX0_present_0 1 rfl rfl)
theorem dX0_present_4 : decode cX0_present 4 = .ok (.getfield 202, 3) := dk_180 0 202 (dk_at dksX0_present_0 4 rfl rfl)
theorem dX0_present_7 : decode cX0_present 7 = .ok (.invokestatic 205, 3) := dk_184 0 205 (dk_at dksX0_present_0 7 rfl rfl)
theorem dX0_present_10 : decode cX0_present 10 = .ok (.areturn, 1) := dk_176 (dk_at dksX0_present_0 10 rfl rfl)
abbrev cX0_change : ByteArray := prog_1_method_21_code
def yX0_change : MethodName := ⟨RX0, "change", "(LAntennaTuner$Setting;)V"⟩
def dkwX0_change_0 : List UInt8 := [42, 182, 0, 193, 42, 180, 0, 114, 43, 182, 0, 211, 182, 0, 213, 177]
abbrev dktX0_change_0 : List UInt8 := dkwX0_change_0 ++ []
theorem dksX0_change_0 : cX0_change.data.toList.drop 0 = dktX0_change_0 := by decide +kernel
theorem dX0_change_0 : decode cX0_change 0 = .ok (.aload_n 0, 1) := dk_42 (dk_at dksX0_change_0 0 rfl rfl)
theorem dX0_change_1 : decode cX0_change 1 = .ok (.invokevirtual 193, 3) := dk_182 0 193 (dk_at dksX0_change_0 1 rfl rfl)
theorem dX0_change_4 : decode cX0_change 4 = .ok (.aload_n 0, 1) := dk_42 (dk_at dksX0_change_0 4 rfl rfl)
theorem dX0_change_5 : decode cX0_change 5 = .ok (.getfield 114, 3) := dk_180 0 114 (dk_at dksX0_change_0 5 rfl rfl)
theorem dX0_change_8 : decode cX0_change 8 = .ok (.aload_n 1, 1) := dk_43 (dk_at dksX0_change_0 8 rfl rfl)
theorem dX0_change_9 : decode cX0_change 9 = .ok (.invokevirtual 211, 3) := dk_182 0 211 (dk_at dksX0_change_0 9 rfl rfl)
theorem dX0_change_12 : decode cX0_change 12 = .ok (.invokevirtual 213, 3) := dk_182 0 213 (dk_at dksX0_change_0 12 rfl rfl)
theorem dX0_change_15 : decode cX0_change 15 = .ok (.return_, 1) := dk_177 (dk_at dksX0_change_0 15 rfl rfl)
abbrev cX0_setCoil : ByteArray := prog_1_method_23_code
def yX0_setCoil : MethodName := ⟨RX0, "setCoil", "(I)I"⟩
def dkwX0_setCoil_1 : List UInt8 := [187, 0, 206, 89, 44, 180, 0, 232, 27, 44, 180, 0, 222, 183, 0, 225, 182, 0, 228, 44, 180, 0, 220, 172]
abbrev dktX0_setCoil_1 : List UInt8 := dkwX0_setCoil_1 ++ []
def dkwX0_setCoil_0 : List UInt8 := [42, 182, 0, 172, 153, 0, 10, 27, 184, 0, 235, 154, 0, 5, 2, 172, 42, 182, 0, 216, 77, 42]
abbrev dktX0_setCoil_0 : List UInt8 := dkwX0_setCoil_0 ++ dktX0_setCoil_1
theorem dksX0_setCoil_0 : cX0_setCoil.data.toList.drop 0 = dktX0_setCoil_0 := by decide +kernel
theorem dksX0_setCoil_1 : cX0_setCoil.data.toList.drop 22 = dktX0_setCoil_1 := dk_seg dksX0_setCoil_0 22 rfl rfl
theorem dX0_setCoil_0 : decode cX0_setCoil 0 = .ok (.aload_n 0, 1) := dk_42 (dk_at dksX0_setCoil_0 0 rfl rfl)
theorem dX0_setCoil_1 : decode cX0_setCoil 1 = .ok (.invokevirtual 172, 3) := dk_182 0 172 (dk_at dksX0_setCoil_0 1 rfl rfl)
theorem dX0_setCoil_4 : decode cX0_setCoil 4 = .ok (.ifCond .eq 10, 3) := dk_153 0 10 (dk_at dksX0_setCoil_0 4 rfl rfl)
theorem dX0_setCoil_7 : decode cX0_setCoil 7 = .ok (.iload_n 1, 1) := dk_27 (dk_at dksX0_setCoil_0 7 rfl rfl)
theorem dX0_setCoil_8 : decode cX0_setCoil 8 = .ok (.invokestatic 235, 3) := dk_184 0 235 (dk_at dksX0_setCoil_0 8 rfl rfl)
theorem dX0_setCoil_11 : decode cX0_setCoil 11 = .ok (.ifCond .ne 5, 3) := dk_154 0 5 (dk_at dksX0_setCoil_0 11 rfl rfl)
theorem dX0_setCoil_14 : decode cX0_setCoil 14 = .ok (.iconst (-1), 1) := dk_2 (dk_at dksX0_setCoil_0 14 rfl rfl)
theorem dX0_setCoil_15 : decode cX0_setCoil 15 = .ok (.ireturn, 1) := dk_172 (dk_at dksX0_setCoil_0 15 rfl rfl)
theorem dX0_setCoil_16 : decode cX0_setCoil 16 = .ok (.aload_n 0, 1) := dk_42 (dk_at dksX0_setCoil_0 16 rfl rfl)
theorem dX0_setCoil_17 : decode cX0_setCoil 17 = .ok (.invokevirtual 216, 3) := dk_182 0 216 (dk_at dksX0_setCoil_0 17 rfl rfl)
theorem dX0_setCoil_20 : decode cX0_setCoil 20 = .ok (.astore_n 2, 1) := dk_77 (dk_at dksX0_setCoil_0 20 rfl rfl)
theorem dX0_setCoil_21 : decode cX0_setCoil 21 = .ok (.aload_n 0, 1) := dk_42 (dk_at dksX0_setCoil_0 21 rfl rfl)
theorem dX0_setCoil_22 : decode cX0_setCoil 22 = .ok (.new 206, 3) := dk_187 0 206 (dk_at dksX0_setCoil_1 0 rfl rfl)
theorem dX0_setCoil_25 : decode cX0_setCoil 25 = .ok (.dup, 1) := dk_89 (dk_at dksX0_setCoil_1 3 rfl rfl)
theorem dX0_setCoil_26 : decode cX0_setCoil 26 = .ok (.aload_n 2, 1) := dk_44 (dk_at dksX0_setCoil_1 4 rfl rfl)
theorem dX0_setCoil_27 : decode cX0_setCoil 27 = .ok (.getfield 232, 3) := dk_180 0 232 (dk_at dksX0_setCoil_1 5 rfl rfl)
theorem dX0_setCoil_30 : decode cX0_setCoil 30 = .ok (.iload_n 1, 1) := dk_27 (dk_at dksX0_setCoil_1 8 rfl rfl)
theorem dX0_setCoil_31 : decode cX0_setCoil 31 = .ok (.aload_n 2, 1) := dk_44 (dk_at dksX0_setCoil_1 9 rfl rfl)
theorem dX0_setCoil_32 : decode cX0_setCoil 32 = .ok (.getfield 222, 3) := dk_180 0 222 (dk_at dksX0_setCoil_1 10 rfl rfl)
theorem dX0_setCoil_35 : decode cX0_setCoil 35 = .ok (.invokespecial 225, 3) := dk_183 0 225 (dk_at dksX0_setCoil_1 13 rfl rfl)
theorem dX0_setCoil_38 : decode cX0_setCoil 38 = .ok (.invokevirtual 228, 3) := dk_182 0 228 (dk_at dksX0_setCoil_1 16 rfl rfl)
theorem dX0_setCoil_41 : decode cX0_setCoil 41 = .ok (.aload_n 2, 1) := dk_44 (dk_at dksX0_setCoil_1 19 rfl rfl)
theorem dX0_setCoil_42 : decode cX0_setCoil 42 = .ok (.getfield 220, 3) := dk_180 0 220 (dk_at dksX0_setCoil_1 20 rfl rfl)
theorem dX0_setCoil_45 : decode cX0_setCoil 45 = .ok (.ireturn, 1) := dk_172 (dk_at dksX0_setCoil_1 23 rfl rfl)
abbrev cX0_isSetting : ByteArray := prog_1_method_9_code
def yX0_isSetting : MethodName := ⟨RX0, "isSetting", "(I)Z"⟩
def dkwX0_isSetting_0 : List UInt8 := [26, 3, 16, 63, 184, 0, 125, 172]
abbrev dktX0_isSetting_0 : List UInt8 := dkwX0_isSetting_0 ++ []
theorem dksX0_isSetting_0 : cX0_isSetting.data.toList.drop 0 = dktX0_isSetting_0 := by decide +kernel
theorem dX0_isSetting_0 : decode cX0_isSetting 0 = .ok (.iload_n 0, 1) := dk_26 (dk_at dksX0_isSetting_0 0 rfl rfl)
theorem dX0_isSetting_1 : decode cX0_isSetting 1 = .ok (.iconst 0, 1) := dk_3 (dk_at dksX0_isSetting_0 1 rfl rfl)
theorem dX0_isSetting_2 : decode cX0_isSetting 2 = .ok (.bipush 63, 2) := dk_16 63 (dk_at dksX0_isSetting_0 2 rfl rfl)
theorem dX0_isSetting_4 : decode cX0_isSetting 4 = .ok (.invokestatic 125, 3) := dk_184 0 125 (dk_at dksX0_isSetting_0 4 rfl rfl)
theorem dX0_isSetting_7 : decode cX0_isSetting 7 = .ok (.ireturn, 1) := dk_172 (dk_at dksX0_isSetting_0 7 rfl rfl)
abbrev cX0_setCapacitor : ByteArray := prog_1_method_24_code
def yX0_setCapacitor : MethodName := ⟨RX0, "setCapacitor", "(I)I"⟩
def dkwX0_setCapacitor_1 : List UInt8 := [187, 0, 206, 89, 44, 180, 0, 232, 44, 180, 0, 220, 27, 183, 0, 225, 182, 0, 228, 44, 180, 0, 222, 172]
abbrev dktX0_setCapacitor_1 : List UInt8 := dkwX0_setCapacitor_1 ++ []
def dkwX0_setCapacitor_0 : List UInt8 := [42, 182, 0, 172, 153, 0, 10, 27, 184, 0, 235, 154, 0, 5, 2, 172, 42, 182, 0, 216, 77, 42]
abbrev dktX0_setCapacitor_0 : List UInt8 := dkwX0_setCapacitor_0 ++ dktX0_setCapacitor_1
theorem dksX0_setCapacitor_0 : cX0_setCapacitor.data.toList.drop 0 = dktX0_setCapacitor_0 := by decide +kernel
theorem dksX0_setCapacitor_1 : cX0_setCapacitor.data.toList.drop 22 = dktX0_setCapacitor_1 := dk_seg dksX0_setCapacitor_0 22 rfl rfl
theorem dX0_setCapacitor_0 : decode cX0_setCapacitor 0 = .ok (.aload_n 0, 1) := dk_42 (dk_at dksX0_setCapacitor_0 0 rfl rfl)
theorem dX0_setCapacitor_1 : decode cX0_setCapacitor 1 = .ok (.invokevirtual 172, 3) := dk_182 0 172 (dk_at dksX0_setCapacitor_0 1 rfl rfl)
theorem dX0_setCapacitor_4 : decode cX0_setCapacitor 4 = .ok (.ifCond .eq 10, 3) := dk_153 0 10 (dk_at dksX0_setCapacitor_0 4 rfl rfl)
theorem dX0_setCapacitor_7 : decode cX0_setCapacitor 7 = .ok (.iload_n 1, 1) := dk_27 (dk_at dksX0_setCapacitor_0 7 rfl rfl)
theorem dX0_setCapacitor_8 : decode cX0_setCapacitor 8 = .ok (.invokestatic 235, 3) := dk_184 0 235 (dk_at dksX0_setCapacitor_0 8 rfl rfl)
theorem dX0_setCapacitor_11 : decode cX0_setCapacitor 11 = .ok (.ifCond .ne 5, 3) := dk_154 0 5 (dk_at dksX0_setCapacitor_0 11 rfl rfl)
theorem dX0_setCapacitor_14 : decode cX0_setCapacitor 14 = .ok (.iconst (-1), 1) := dk_2 (dk_at dksX0_setCapacitor_0 14 rfl rfl)
theorem dX0_setCapacitor_15 : decode cX0_setCapacitor 15 = .ok (.ireturn, 1) := dk_172 (dk_at dksX0_setCapacitor_0 15 rfl rfl)
theorem dX0_setCapacitor_16 : decode cX0_setCapacitor 16 = .ok (.aload_n 0, 1) := dk_42 (dk_at dksX0_setCapacitor_0 16 rfl rfl)
theorem dX0_setCapacitor_17 : decode cX0_setCapacitor 17 = .ok (.invokevirtual 216, 3) := dk_182 0 216 (dk_at dksX0_setCapacitor_0 17 rfl rfl)
theorem dX0_setCapacitor_20 : decode cX0_setCapacitor 20 = .ok (.astore_n 2, 1) := dk_77 (dk_at dksX0_setCapacitor_0 20 rfl rfl)
theorem dX0_setCapacitor_21 : decode cX0_setCapacitor 21 = .ok (.aload_n 0, 1) := dk_42 (dk_at dksX0_setCapacitor_0 21 rfl rfl)
theorem dX0_setCapacitor_22 : decode cX0_setCapacitor 22 = .ok (.new 206, 3) := dk_187 0 206 (dk_at dksX0_setCapacitor_1 0 rfl rfl)
theorem dX0_setCapacitor_25 : decode cX0_setCapacitor 25 = .ok (.dup, 1) := dk_89 (dk_at dksX0_setCapacitor_1 3 rfl rfl)
theorem dX0_setCapacitor_26 : decode cX0_setCapacitor 26 = .ok (.aload_n 2, 1) := dk_44 (dk_at dksX0_setCapacitor_1 4 rfl rfl)
theorem dX0_setCapacitor_27 : decode cX0_setCapacitor 27 = .ok (.getfield 232, 3) := dk_180 0 232 (dk_at dksX0_setCapacitor_1 5 rfl rfl)
theorem dX0_setCapacitor_30 : decode cX0_setCapacitor 30 = .ok (.aload_n 2, 1) := dk_44 (dk_at dksX0_setCapacitor_1 8 rfl rfl)
theorem dX0_setCapacitor_31 : decode cX0_setCapacitor 31 = .ok (.getfield 220, 3) := dk_180 0 220 (dk_at dksX0_setCapacitor_1 9 rfl rfl)
theorem dX0_setCapacitor_34 : decode cX0_setCapacitor 34 = .ok (.iload_n 1, 1) := dk_27 (dk_at dksX0_setCapacitor_1 12 rfl rfl)
theorem dX0_setCapacitor_35 : decode cX0_setCapacitor 35 = .ok (.invokespecial 225, 3) := dk_183 0 225 (dk_at dksX0_setCapacitor_1 13 rfl rfl)
theorem dX0_setCapacitor_38 : decode cX0_setCapacitor 38 = .ok (.invokevirtual 228, 3) := dk_182 0 228 (dk_at dksX0_setCapacitor_1 16 rfl rfl)
theorem dX0_setCapacitor_41 : decode cX0_setCapacitor 41 = .ok (.aload_n 2, 1) := dk_44 (dk_at dksX0_setCapacitor_1 19 rfl rfl)
theorem dX0_setCapacitor_42 : decode cX0_setCapacitor 42 = .ok (.getfield 222, 3) := dk_180 0 222 (dk_at dksX0_setCapacitor_1 20 rfl rfl)
theorem dX0_setCapacitor_45 : decode cX0_setCapacitor 45 = .ok (.ireturn, 1) := dk_172 (dk_at dksX0_setCapacitor_1 23 rfl rfl)
abbrev cX0_frequency : ByteArray := prog_1_method_25_code
def yX0_frequency : MethodName := ⟨RX0, "frequency", "()I"⟩
def dkwX0_frequency_0 : List UInt8 := [42, 182, 0, 172, 153, 0, 13, 42, 180, 0, 114, 180, 0, 196, 167, 0, 4, 2, 172]
abbrev dktX0_frequency_0 : List UInt8 := dkwX0_frequency_0 ++ []
theorem dksX0_frequency_0 : cX0_frequency.data.toList.drop 0 = dktX0_frequency_0 := by decide +kernel
theorem dX0_frequency_0 : decode cX0_frequency 0 = .ok (.aload_n 0, 1) := dk_42 (dk_at dksX0_frequency_0 0 rfl rfl)
theorem dX0_frequency_1 : decode cX0_frequency 1 = .ok (.invokevirtual 172, 3) := dk_182 0 172 (dk_at dksX0_frequency_0 1 rfl rfl)
theorem dX0_frequency_4 : decode cX0_frequency 4 = .ok (.ifCond .eq 13, 3) := dk_153 0 13 (dk_at dksX0_frequency_0 4 rfl rfl)
theorem dX0_frequency_7 : decode cX0_frequency 7 = .ok (.aload_n 0, 1) := dk_42 (dk_at dksX0_frequency_0 7 rfl rfl)
theorem dX0_frequency_8 : decode cX0_frequency 8 = .ok (.getfield 114, 3) := dk_180 0 114 (dk_at dksX0_frequency_0 8 rfl rfl)
theorem dX0_frequency_11 : decode cX0_frequency 11 = .ok (.getfield 196, 3) := dk_180 0 196 (dk_at dksX0_frequency_0 11 rfl rfl)
theorem dX0_frequency_14 : decode cX0_frequency 14 = .ok (.goto 4, 3) := dk_167 0 4 (dk_at dksX0_frequency_0 14 rfl rfl)
theorem dX0_frequency_17 : decode cX0_frequency 17 = .ok (.iconst (-1), 1) := dk_2 (dk_at dksX0_frequency_0 17 rfl rfl)
theorem dX0_frequency_18 : decode cX0_frequency 18 = .ok (.ireturn, 1) := dk_172 (dk_at dksX0_frequency_0 18 rfl rfl)
abbrev cX0_settings : ByteArray := prog_1_method_26_code
def yX0_settings : MethodName := ⟨RX0, "settings", "()I"⟩
def dkwX0_settings_0 : List UInt8 := [42, 182, 0, 172, 153, 0, 13, 42, 180, 0, 114, 180, 0, 202, 167, 0, 4, 2, 172]
abbrev dktX0_settings_0 : List UInt8 := dkwX0_settings_0 ++ []
theorem dksX0_settings_0 : cX0_settings.data.toList.drop 0 = dktX0_settings_0 := by decide +kernel
theorem dX0_settings_0 : decode cX0_settings 0 = .ok (.aload_n 0, 1) := dk_42 (dk_at dksX0_settings_0 0 rfl rfl)
theorem dX0_settings_1 : decode cX0_settings 1 = .ok (.invokevirtual 172, 3) := dk_182 0 172 (dk_at dksX0_settings_0 1 rfl rfl)
theorem dX0_settings_4 : decode cX0_settings 4 = .ok (.ifCond .eq 13, 3) := dk_153 0 13 (dk_at dksX0_settings_0 4 rfl rfl)
theorem dX0_settings_7 : decode cX0_settings 7 = .ok (.aload_n 0, 1) := dk_42 (dk_at dksX0_settings_0 7 rfl rfl)
theorem dX0_settings_8 : decode cX0_settings 8 = .ok (.getfield 114, 3) := dk_180 0 114 (dk_at dksX0_settings_0 8 rfl rfl)
theorem dX0_settings_11 : decode cX0_settings 11 = .ok (.getfield 202, 3) := dk_180 0 202 (dk_at dksX0_settings_0 11 rfl rfl)
theorem dX0_settings_14 : decode cX0_settings 14 = .ok (.goto 4, 3) := dk_167 0 4 (dk_at dksX0_settings_0 14 rfl rfl)
theorem dX0_settings_17 : decode cX0_settings 17 = .ok (.iconst (-1), 1) := dk_2 (dk_at dksX0_settings_0 17 rfl rfl)
theorem dX0_settings_18 : decode cX0_settings 18 = .ok (.ireturn, 1) := dk_172 (dk_at dksX0_settings_0 18 rfl rfl)
abbrev cX0_relaysTo : ByteArray := prog_1_method_28_code
def yX0_relaysTo : MethodName := ⟨RX0, "relaysTo", "(III)I"⟩
def dkwX0_relaysTo_1 : List UInt8 := [180, 0, 114, 180, 0, 202, 130, 184, 0, 241, 167, 0, 4, 2, 172]
abbrev dktX0_relaysTo_1 : List UInt8 := dkwX0_relaysTo_1 ++ []
def dkwX0_relaysTo_0 : List UInt8 := [42, 27, 28, 29, 182, 0, 238, 153, 0, 30, 187, 0, 206, 89, 27, 28, 29, 183, 0, 225, 182, 0, 211, 42]
abbrev dktX0_relaysTo_0 : List UInt8 := dkwX0_relaysTo_0 ++ dktX0_relaysTo_1
theorem dksX0_relaysTo_0 : cX0_relaysTo.data.toList.drop 0 = dktX0_relaysTo_0 := by decide +kernel
theorem dksX0_relaysTo_1 : cX0_relaysTo.data.toList.drop 24 = dktX0_relaysTo_1 := dk_seg dksX0_relaysTo_0 24 rfl rfl
theorem dX0_relaysTo_0 : decode cX0_relaysTo 0 = .ok (.aload_n 0, 1) := dk_42 (dk_at dksX0_relaysTo_0 0 rfl rfl)
theorem dX0_relaysTo_1 : decode cX0_relaysTo 1 = .ok (.iload_n 1, 1) := dk_27 (dk_at dksX0_relaysTo_0 1 rfl rfl)
theorem dX0_relaysTo_2 : decode cX0_relaysTo 2 = .ok (.iload_n 2, 1) := dk_28 (dk_at dksX0_relaysTo_0 2 rfl rfl)
theorem dX0_relaysTo_3 : decode cX0_relaysTo 3 = .ok (.iload_n 3, 1) := dk_29 (dk_at dksX0_relaysTo_0 3 rfl rfl)
theorem dX0_relaysTo_4 : decode cX0_relaysTo 4 = .ok (.invokevirtual 238, 3) := dk_182 0 238 (dk_at dksX0_relaysTo_0 4 rfl rfl)
theorem dX0_relaysTo_7 : decode cX0_relaysTo 7 = .ok (.ifCond .eq 30, 3) := dk_153 0 30 (dk_at dksX0_relaysTo_0 7 rfl rfl)
theorem dX0_relaysTo_10 : decode cX0_relaysTo 10 = .ok (.new 206, 3) := dk_187 0 206 (dk_at dksX0_relaysTo_0 10 rfl rfl)
theorem dX0_relaysTo_13 : decode cX0_relaysTo 13 = .ok (.dup, 1) := dk_89 (dk_at dksX0_relaysTo_0 13 rfl rfl)
theorem dX0_relaysTo_14 : decode cX0_relaysTo 14 = .ok (.iload_n 1, 1) := dk_27 (dk_at dksX0_relaysTo_0 14 rfl rfl)
theorem dX0_relaysTo_15 : decode cX0_relaysTo 15 = .ok (.iload_n 2, 1) := dk_28 (dk_at dksX0_relaysTo_0 15 rfl rfl)
theorem dX0_relaysTo_16 : decode cX0_relaysTo 16 = .ok (.iload_n 3, 1) := dk_29 (dk_at dksX0_relaysTo_0 16 rfl rfl)
theorem dX0_relaysTo_17 : decode cX0_relaysTo 17 = .ok (.invokespecial 225, 3) := dk_183 0 225 (dk_at dksX0_relaysTo_0 17 rfl rfl)
theorem dX0_relaysTo_20 : decode cX0_relaysTo 20 = .ok (.invokevirtual 211, 3) := dk_182 0 211 (dk_at dksX0_relaysTo_0 20 rfl rfl)
theorem dX0_relaysTo_23 : decode cX0_relaysTo 23 = .ok (.aload_n 0, 1) := dk_42 (dk_at dksX0_relaysTo_0 23 rfl rfl)
theorem dX0_relaysTo_24 : decode cX0_relaysTo 24 = .ok (.getfield 114, 3) := dk_180 0 114 (dk_at dksX0_relaysTo_1 0 rfl rfl)
theorem dX0_relaysTo_27 : decode cX0_relaysTo 27 = .ok (.getfield 202, 3) := dk_180 0 202 (dk_at dksX0_relaysTo_1 3 rfl rfl)
theorem dX0_relaysTo_30 : decode cX0_relaysTo 30 = .ok (.ixor, 1) := dk_130 (dk_at dksX0_relaysTo_1 6 rfl rfl)
theorem dX0_relaysTo_31 : decode cX0_relaysTo 31 = .ok (.invokestatic 241, 3) := dk_184 0 241 (dk_at dksX0_relaysTo_1 7 rfl rfl)
theorem dX0_relaysTo_34 : decode cX0_relaysTo 34 = .ok (.goto 4, 3) := dk_167 0 4 (dk_at dksX0_relaysTo_1 10 rfl rfl)
theorem dX0_relaysTo_37 : decode cX0_relaysTo 37 = .ok (.iconst (-1), 1) := dk_2 (dk_at dksX0_relaysTo_1 13 rfl rfl)
theorem dX0_relaysTo_38 : decode cX0_relaysTo 38 = .ok (.ireturn, 1) := dk_172 (dk_at dksX0_relaysTo_1 14 rfl rfl)
abbrev cX0_areSettings : ByteArray := prog_1_method_27_code
def yX0_areSettings : MethodName := ⟨RX0, "areSettings", "(III)Z"⟩
def dkwX0_areSettings_1 : List UInt8 := [184, 0, 235, 153, 0, 7, 4, 167, 0, 4, 3, 172]
abbrev dktX0_areSettings_1 : List UInt8 := dkwX0_areSettings_1 ++ []
def dkwX0_areSettings_0 : List UInt8 := [42, 182, 0, 172, 153, 0, 30, 27, 3, 4, 184, 0, 125, 153, 0, 21, 28, 184, 0, 235, 153, 0, 14, 29]
abbrev dktX0_areSettings_0 : List UInt8 := dkwX0_areSettings_0 ++ dktX0_areSettings_1
theorem dksX0_areSettings_0 : cX0_areSettings.data.toList.drop 0 = dktX0_areSettings_0 := by decide +kernel
theorem dksX0_areSettings_1 : cX0_areSettings.data.toList.drop 24 = dktX0_areSettings_1 := dk_seg dksX0_areSettings_0 24 rfl rfl
theorem dX0_areSettings_0 : decode cX0_areSettings 0 = .ok (.aload_n 0, 1) := dk_42 (dk_at dksX0_areSettings_0 0 rfl rfl)
theorem dX0_areSettings_1 : decode cX0_areSettings 1 = .ok (.invokevirtual 172, 3) := dk_182 0 172 (dk_at dksX0_areSettings_0 1 rfl rfl)
theorem dX0_areSettings_4 : decode cX0_areSettings 4 = .ok (.ifCond .eq 30, 3) := dk_153 0 30 (dk_at dksX0_areSettings_0 4 rfl rfl)
theorem dX0_areSettings_7 : decode cX0_areSettings 7 = .ok (.iload_n 1, 1) := dk_27 (dk_at dksX0_areSettings_0 7 rfl rfl)
theorem dX0_areSettings_8 : decode cX0_areSettings 8 = .ok (.iconst 0, 1) := dk_3 (dk_at dksX0_areSettings_0 8 rfl rfl)
theorem dX0_areSettings_9 : decode cX0_areSettings 9 = .ok (.iconst 1, 1) := dk_4 (dk_at dksX0_areSettings_0 9 rfl rfl)
theorem dX0_areSettings_10 : decode cX0_areSettings 10 = .ok (.invokestatic 125, 3) := dk_184 0 125 (dk_at dksX0_areSettings_0 10 rfl rfl)
theorem dX0_areSettings_13 : decode cX0_areSettings 13 = .ok (.ifCond .eq 21, 3) := dk_153 0 21 (dk_at dksX0_areSettings_0 13 rfl rfl)
theorem dX0_areSettings_16 : decode cX0_areSettings 16 = .ok (.iload_n 2, 1) := dk_28 (dk_at dksX0_areSettings_0 16 rfl rfl)
theorem dX0_areSettings_17 : decode cX0_areSettings 17 = .ok (.invokestatic 235, 3) := dk_184 0 235 (dk_at dksX0_areSettings_0 17 rfl rfl)
theorem dX0_areSettings_20 : decode cX0_areSettings 20 = .ok (.ifCond .eq 14, 3) := dk_153 0 14 (dk_at dksX0_areSettings_0 20 rfl rfl)
theorem dX0_areSettings_23 : decode cX0_areSettings 23 = .ok (.iload_n 3, 1) := dk_29 (dk_at dksX0_areSettings_0 23 rfl rfl)
theorem dX0_areSettings_24 : decode cX0_areSettings 24 = .ok (.invokestatic 235, 3) := dk_184 0 235 (dk_at dksX0_areSettings_1 0 rfl rfl)
theorem dX0_areSettings_27 : decode cX0_areSettings 27 = .ok (.ifCond .eq 7, 3) := dk_153 0 7 (dk_at dksX0_areSettings_1 3 rfl rfl)
theorem dX0_areSettings_30 : decode cX0_areSettings 30 = .ok (.iconst 1, 1) := dk_4 (dk_at dksX0_areSettings_1 6 rfl rfl)
theorem dX0_areSettings_31 : decode cX0_areSettings 31 = .ok (.goto 4, 3) := dk_167 0 4 (dk_at dksX0_areSettings_1 7 rfl rfl)
theorem dX0_areSettings_34 : decode cX0_areSettings 34 = .ok (.iconst 0, 1) := dk_3 (dk_at dksX0_areSettings_1 10 rfl rfl)
theorem dX0_areSettings_35 : decode cX0_areSettings 35 = .ok (.ireturn, 1) := dk_172 (dk_at dksX0_areSettings_1 11 rfl rfl)
abbrev cX0_inputResistance : ByteArray := prog_1_method_30_code
def yX0_inputResistance : MethodName := ⟨RX0, "inputResistance", "()J"⟩
def dkwX0_inputResistance_0 : List UInt8 := [42, 182, 0, 172, 153, 0, 16, 42, 182, 0, 250, 180, 0, 7, 180, 0, 26, 167, 0, 6, 20, 0, 187, 173]
abbrev dktX0_inputResistance_0 : List UInt8 := dkwX0_inputResistance_0 ++ []
theorem dksX0_inputResistance_0 : cX0_inputResistance.data.toList.drop 0 = dktX0_inputResistance_0 := by decide +kernel
theorem dX0_inputResistance_0 : decode cX0_inputResistance 0 = .ok (.aload_n 0, 1) := dk_42 (dk_at dksX0_inputResistance_0 0 rfl rfl)
theorem dX0_inputResistance_1 : decode cX0_inputResistance 1 = .ok (.invokevirtual 172, 3) := dk_182 0 172 (dk_at dksX0_inputResistance_0 1 rfl rfl)
theorem dX0_inputResistance_4 : decode cX0_inputResistance 4 = .ok (.ifCond .eq 16, 3) := dk_153 0 16 (dk_at dksX0_inputResistance_0 4 rfl rfl)
theorem dX0_inputResistance_7 : decode cX0_inputResistance 7 = .ok (.aload_n 0, 1) := dk_42 (dk_at dksX0_inputResistance_0 7 rfl rfl)
theorem dX0_inputResistance_8 : decode cX0_inputResistance 8 = .ok (.invokevirtual 250, 3) := dk_182 0 250 (dk_at dksX0_inputResistance_0 8 rfl rfl)
theorem dX0_inputResistance_11 : decode cX0_inputResistance 11 = .ok (.getfield 7, 3) := dk_180 0 7 (dk_at dksX0_inputResistance_0 11 rfl rfl)
theorem dX0_inputResistance_14 : decode cX0_inputResistance 14 = .ok (.getfield 26, 3) := dk_180 0 26 (dk_at dksX0_inputResistance_0 14 rfl rfl)
theorem dX0_inputResistance_17 : decode cX0_inputResistance 17 = .ok (.goto 6, 3) := dk_167 0 6 (dk_at dksX0_inputResistance_0 17 rfl rfl)
theorem dX0_inputResistance_20 : decode cX0_inputResistance 20 = .ok (.ldc2_w 187, 3) := dk_20 0 187 (dk_at dksX0_inputResistance_0 20 rfl rfl)
theorem dX0_inputResistance_23 : decode cX0_inputResistance 23 = .ok (.lreturn, 1) := dk_173 (dk_at dksX0_inputResistance_0 23 rfl rfl)
abbrev cX0_here : ByteArray := prog_1_method_29_code
def yX0_here : MethodName := ⟨RX0, "here", "()LAntennaTuner$Circuit;"⟩
def dkwX0_here_0 : List UInt8 := [42, 180, 0, 89, 42, 180, 0, 114, 180, 0, 202, 42, 180, 0, 114, 180, 0, 196, 182, 0, 246, 176]
abbrev dktX0_here_0 : List UInt8 := dkwX0_here_0 ++ []
theorem dksX0_here_0 : cX0_here.data.toList.drop 0 = dktX0_here_0 := by decide +kernel
theorem dX0_here_0 : decode cX0_here 0 = .ok (.aload_n 0, 1) := dk_42 (dk_at dksX0_here_0 0 rfl rfl)
theorem dX0_here_1 : decode cX0_here 1 = .ok (.getfield 89, 3) := dk_180 0 89 (dk_at dksX0_here_0 1 rfl rfl)
theorem dX0_here_4 : decode cX0_here 4 = .ok (.aload_n 0, 1) := dk_42 (dk_at dksX0_here_0 4 rfl rfl)
theorem dX0_here_5 : decode cX0_here 5 = .ok (.getfield 114, 3) := dk_180 0 114 (dk_at dksX0_here_0 5 rfl rfl)
theorem dX0_here_8 : decode cX0_here 8 = .ok (.getfield 202, 3) := dk_180 0 202 (dk_at dksX0_here_0 8 rfl rfl)
theorem dX0_here_11 : decode cX0_here 11 = .ok (.aload_n 0, 1) := dk_42 (dk_at dksX0_here_0 11 rfl rfl)
theorem dX0_here_12 : decode cX0_here 12 = .ok (.getfield 114, 3) := dk_180 0 114 (dk_at dksX0_here_0 12 rfl rfl)
theorem dX0_here_15 : decode cX0_here 15 = .ok (.getfield 196, 3) := dk_180 0 196 (dk_at dksX0_here_0 15 rfl rfl)
theorem dX0_here_18 : decode cX0_here 18 = .ok (.invokevirtual 246, 3) := dk_182 0 246 (dk_at dksX0_here_0 18 rfl rfl)
theorem dX0_here_21 : decode cX0_here 21 = .ok (.areturn, 1) := dk_176 (dk_at dksX0_here_0 21 rfl rfl)
abbrev cX0_inputReactance : ByteArray := prog_1_method_31_code
def yX0_inputReactance : MethodName := ⟨RX0, "inputReactance", "()J"⟩
def dkwX0_inputReactance_0 : List UInt8 := [42, 182, 0, 172, 153, 0, 16, 42, 182, 0, 250, 180, 0, 7, 180, 0, 29, 167, 0, 6, 20, 0, 187, 173]
abbrev dktX0_inputReactance_0 : List UInt8 := dkwX0_inputReactance_0 ++ []
theorem dksX0_inputReactance_0 : cX0_inputReactance.data.toList.drop 0 = dktX0_inputReactance_0 := by decide +kernel
theorem dX0_inputReactance_0 : decode cX0_inputReactance 0 = .ok (.aload_n 0, 1) := dk_42 (dk_at dksX0_inputReactance_0 0 rfl rfl)
theorem dX0_inputReactance_1 : decode cX0_inputReactance 1 = .ok (.invokevirtual 172, 3) := dk_182 0 172 (dk_at dksX0_inputReactance_0 1 rfl rfl)
theorem dX0_inputReactance_4 : decode cX0_inputReactance 4 = .ok (.ifCond .eq 16, 3) := dk_153 0 16 (dk_at dksX0_inputReactance_0 4 rfl rfl)
theorem dX0_inputReactance_7 : decode cX0_inputReactance 7 = .ok (.aload_n 0, 1) := dk_42 (dk_at dksX0_inputReactance_0 7 rfl rfl)
theorem dX0_inputReactance_8 : decode cX0_inputReactance 8 = .ok (.invokevirtual 250, 3) := dk_182 0 250 (dk_at dksX0_inputReactance_0 8 rfl rfl)
theorem dX0_inputReactance_11 : decode cX0_inputReactance 11 = .ok (.getfield 7, 3) := dk_180 0 7 (dk_at dksX0_inputReactance_0 11 rfl rfl)
theorem dX0_inputReactance_14 : decode cX0_inputReactance 14 = .ok (.getfield 29, 3) := dk_180 0 29 (dk_at dksX0_inputReactance_0 14 rfl rfl)
theorem dX0_inputReactance_17 : decode cX0_inputReactance 17 = .ok (.goto 6, 3) := dk_167 0 6 (dk_at dksX0_inputReactance_0 17 rfl rfl)
theorem dX0_inputReactance_20 : decode cX0_inputReactance 20 = .ok (.ldc2_w 187, 3) := dk_20 0 187 (dk_at dksX0_inputReactance_0 20 rfl rfl)
theorem dX0_inputReactance_23 : decode cX0_inputReactance 23 = .ok (.lreturn, 1) := dk_173 (dk_at dksX0_inputReactance_0 23 rfl rfl)
abbrev cX0_swr : ByteArray := prog_1_method_32_code
def yX0_swr : MethodName := ⟨RX0, "swr", "()I"⟩
def dkwX0_swr_0 : List UInt8 := [42, 182, 0, 172, 153, 0, 13, 42, 182, 0, 250, 182, 0, 254, 167, 0, 4, 2, 172]
abbrev dktX0_swr_0 : List UInt8 := dkwX0_swr_0 ++ []
theorem dksX0_swr_0 : cX0_swr.data.toList.drop 0 = dktX0_swr_0 := by decide +kernel
theorem dX0_swr_0 : decode cX0_swr 0 = .ok (.aload_n 0, 1) := dk_42 (dk_at dksX0_swr_0 0 rfl rfl)
theorem dX0_swr_1 : decode cX0_swr 1 = .ok (.invokevirtual 172, 3) := dk_182 0 172 (dk_at dksX0_swr_0 1 rfl rfl)
theorem dX0_swr_4 : decode cX0_swr 4 = .ok (.ifCond .eq 13, 3) := dk_153 0 13 (dk_at dksX0_swr_0 4 rfl rfl)
theorem dX0_swr_7 : decode cX0_swr 7 = .ok (.aload_n 0, 1) := dk_42 (dk_at dksX0_swr_0 7 rfl rfl)
theorem dX0_swr_8 : decode cX0_swr 8 = .ok (.invokevirtual 250, 3) := dk_182 0 250 (dk_at dksX0_swr_0 8 rfl rfl)
theorem dX0_swr_11 : decode cX0_swr 11 = .ok (.invokevirtual 254, 3) := dk_182 0 254 (dk_at dksX0_swr_0 11 rfl rfl)
theorem dX0_swr_14 : decode cX0_swr 14 = .ok (.goto 4, 3) := dk_167 0 4 (dk_at dksX0_swr_0 14 rfl rfl)
theorem dX0_swr_17 : decode cX0_swr 17 = .ok (.iconst (-1), 1) := dk_2 (dk_at dksX0_swr_0 17 rfl rfl)
theorem dX0_swr_18 : decode cX0_swr 18 = .ok (.ireturn, 1) := dk_172 (dk_at dksX0_swr_0 18 rfl rfl)
abbrev cX0_root : ByteArray := prog_1_method_2_code
def yX0_root : MethodName := ⟨RX0, "root", "(J)J"⟩
def dkwX0_root_2 : List UInt8 := [167, 255, 215, 32, 173]
abbrev dktX0_root_2 : List UInt8 := dkwX0_root_2 ++ []
def dkwX0_root_1 : List UInt8 := [55, 6, 22, 6, 22, 6, 105, 30, 148, 157, 0, 9, 22, 6, 65, 167, 0, 9, 22, 6, 10, 101, 55, 4]
abbrev dktX0_root_1 : List UInt8 := dkwX0_root_1 ++ dktX0_root_2
def dkwX0_root_0 : List UInt8 := [9, 65, 20, 0, 3, 55, 4, 32, 22, 4, 148, 156, 0, 40, 32, 22, 4, 97, 10, 97, 20, 0, 5, 109]
abbrev dktX0_root_0 : List UInt8 := dkwX0_root_0 ++ dktX0_root_1
theorem dksX0_root_0 : cX0_root.data.toList.drop 0 = dktX0_root_0 := by decide +kernel
theorem dksX0_root_1 : cX0_root.data.toList.drop 24 = dktX0_root_1 := dk_seg dksX0_root_0 24 rfl rfl
theorem dksX0_root_2 : cX0_root.data.toList.drop 48 = dktX0_root_2 := dk_seg dksX0_root_1 24 rfl rfl
theorem dX0_root_0 : decode cX0_root 0 = .ok (.lconst 0, 1) := dk_9 (dk_at dksX0_root_0 0 rfl rfl)
theorem dX0_root_1 : decode cX0_root 1 = .ok (.lstore_n 2, 1) := dk_65 (dk_at dksX0_root_0 1 rfl rfl)
theorem dX0_root_2 : decode cX0_root 2 = .ok (.ldc2_w 3, 3) := dk_20 0 3 (dk_at dksX0_root_0 2 rfl rfl)
theorem dX0_root_5 : decode cX0_root 5 = .ok (.lstore 4, 2) := dk_55 4 (dk_at dksX0_root_0 5 rfl rfl)
theorem dX0_root_7 : decode cX0_root 7 = .ok (.lload_n 2, 1) := dk_32 (dk_at dksX0_root_0 7 rfl rfl)
theorem dX0_root_8 : decode cX0_root 8 = .ok (.lload 4, 2) := dk_22 4 (dk_at dksX0_root_0 8 rfl rfl)
theorem dX0_root_10 : decode cX0_root 10 = .ok (.lcmp, 1) := dk_148 (dk_at dksX0_root_0 10 rfl rfl)
theorem dX0_root_11 : decode cX0_root 11 = .ok (.ifCond .ge 40, 3) := dk_156 0 40 (dk_at dksX0_root_0 11 rfl rfl)
theorem dX0_root_14 : decode cX0_root 14 = .ok (.lload_n 2, 1) := dk_32 (dk_at dksX0_root_0 14 rfl rfl)
theorem dX0_root_15 : decode cX0_root 15 = .ok (.lload 4, 2) := dk_22 4 (dk_at dksX0_root_0 15 rfl rfl)
theorem dX0_root_17 : decode cX0_root 17 = .ok (.ladd, 1) := dk_97 (dk_at dksX0_root_0 17 rfl rfl)
theorem dX0_root_18 : decode cX0_root 18 = .ok (.lconst 1, 1) := dk_10 (dk_at dksX0_root_0 18 rfl rfl)
theorem dX0_root_19 : decode cX0_root 19 = .ok (.ladd, 1) := dk_97 (dk_at dksX0_root_0 19 rfl rfl)
theorem dX0_root_20 : decode cX0_root 20 = .ok (.ldc2_w 5, 3) := dk_20 0 5 (dk_at dksX0_root_0 20 rfl rfl)
theorem dX0_root_23 : decode cX0_root 23 = .ok (.ldiv, 1) := dk_109 (dk_at dksX0_root_0 23 rfl rfl)
theorem dX0_root_24 : decode cX0_root 24 = .ok (.lstore 6, 2) := dk_55 6 (dk_at dksX0_root_1 0 rfl rfl)
theorem dX0_root_26 : decode cX0_root 26 = .ok (.lload 6, 2) := dk_22 6 (dk_at dksX0_root_1 2 rfl rfl)
theorem dX0_root_28 : decode cX0_root 28 = .ok (.lload 6, 2) := dk_22 6 (dk_at dksX0_root_1 4 rfl rfl)
theorem dX0_root_30 : decode cX0_root 30 = .ok (.lmul, 1) := dk_105 (dk_at dksX0_root_1 6 rfl rfl)
theorem dX0_root_31 : decode cX0_root 31 = .ok (.lload_n 0, 1) := dk_30 (dk_at dksX0_root_1 7 rfl rfl)
theorem dX0_root_32 : decode cX0_root 32 = .ok (.lcmp, 1) := dk_148 (dk_at dksX0_root_1 8 rfl rfl)
theorem dX0_root_33 : decode cX0_root 33 = .ok (.ifCond .gt 9, 3) := dk_157 0 9 (dk_at dksX0_root_1 9 rfl rfl)
theorem dX0_root_36 : decode cX0_root 36 = .ok (.lload 6, 2) := dk_22 6 (dk_at dksX0_root_1 12 rfl rfl)
theorem dX0_root_38 : decode cX0_root 38 = .ok (.lstore_n 2, 1) := dk_65 (dk_at dksX0_root_1 14 rfl rfl)
theorem dX0_root_39 : decode cX0_root 39 = .ok (.goto 9, 3) := dk_167 0 9 (dk_at dksX0_root_1 15 rfl rfl)
theorem dX0_root_42 : decode cX0_root 42 = .ok (.lload 6, 2) := dk_22 6 (dk_at dksX0_root_1 18 rfl rfl)
theorem dX0_root_44 : decode cX0_root 44 = .ok (.lconst 1, 1) := dk_10 (dk_at dksX0_root_1 20 rfl rfl)
theorem dX0_root_45 : decode cX0_root 45 = .ok (.lsub, 1) := dk_101 (dk_at dksX0_root_1 21 rfl rfl)
theorem dX0_root_46 : decode cX0_root 46 = .ok (.lstore 4, 2) := dk_55 4 (dk_at dksX0_root_1 22 rfl rfl)
theorem dX0_root_48 : decode cX0_root 48 = .ok (.goto (-41), 3) := dk_167 255 215 (dk_at dksX0_root_2 0 rfl rfl)
theorem dX0_root_51 : decode cX0_root 51 = .ok (.lload_n 2, 1) := dk_32 (dk_at dksX0_root_2 3 rfl rfl)
theorem dX0_root_52 : decode cX0_root 52 = .ok (.lreturn, 1) := dk_173 (dk_at dksX0_root_2 4 rfl rfl)
abbrev cX0_swrAt : ByteArray := prog_1_method_34_code
def yX0_swrAt : MethodName := ⟨RX0, "swrAt", "(I)I"⟩
def dkwX0_swrAt_0 : List UInt8 := [42, 182, 0, 172, 153, 0, 18, 27, 184, 0, 176, 153, 0, 11, 42, 27, 182, 1, 1, 167, 0, 4, 2, 172]
abbrev dktX0_swrAt_0 : List UInt8 := dkwX0_swrAt_0 ++ []
theorem dksX0_swrAt_0 : cX0_swrAt.data.toList.drop 0 = dktX0_swrAt_0 := by decide +kernel
theorem dX0_swrAt_0 : decode cX0_swrAt 0 = .ok (.aload_n 0, 1) := dk_42 (dk_at dksX0_swrAt_0 0 rfl rfl)
theorem dX0_swrAt_1 : decode cX0_swrAt 1 = .ok (.invokevirtual 172, 3) := dk_182 0 172 (dk_at dksX0_swrAt_0 1 rfl rfl)
theorem dX0_swrAt_4 : decode cX0_swrAt 4 = .ok (.ifCond .eq 18, 3) := dk_153 0 18 (dk_at dksX0_swrAt_0 4 rfl rfl)
theorem dX0_swrAt_7 : decode cX0_swrAt 7 = .ok (.iload_n 1, 1) := dk_27 (dk_at dksX0_swrAt_0 7 rfl rfl)
theorem dX0_swrAt_8 : decode cX0_swrAt 8 = .ok (.invokestatic 176, 3) := dk_184 0 176 (dk_at dksX0_swrAt_0 8 rfl rfl)
theorem dX0_swrAt_11 : decode cX0_swrAt 11 = .ok (.ifCond .eq 11, 3) := dk_153 0 11 (dk_at dksX0_swrAt_0 11 rfl rfl)
theorem dX0_swrAt_14 : decode cX0_swrAt 14 = .ok (.aload_n 0, 1) := dk_42 (dk_at dksX0_swrAt_0 14 rfl rfl)
theorem dX0_swrAt_15 : decode cX0_swrAt 15 = .ok (.iload_n 1, 1) := dk_27 (dk_at dksX0_swrAt_0 15 rfl rfl)
theorem dX0_swrAt_16 : decode cX0_swrAt 16 = .ok (.invokevirtual 257, 3) := dk_182 1 1 (dk_at dksX0_swrAt_0 16 rfl rfl)
theorem dX0_swrAt_19 : decode cX0_swrAt 19 = .ok (.goto 4, 3) := dk_167 0 4 (dk_at dksX0_swrAt_0 19 rfl rfl)
theorem dX0_swrAt_22 : decode cX0_swrAt 22 = .ok (.iconst (-1), 1) := dk_2 (dk_at dksX0_swrAt_0 22 rfl rfl)
theorem dX0_swrAt_23 : decode cX0_swrAt 23 = .ok (.ireturn, 1) := dk_172 (dk_at dksX0_swrAt_0 23 rfl rfl)
abbrev cX0_swrOf : ByteArray := prog_1_method_33_code
def yX0_swrOf : MethodName := ⟨RX0, "swrOf", "(I)I"⟩
def dkwX0_swrOf_0 : List UInt8 := [42, 180, 0, 89, 42, 180, 0, 114, 180, 0, 202, 27, 182, 0, 246, 182, 0, 254, 172]
abbrev dktX0_swrOf_0 : List UInt8 := dkwX0_swrOf_0 ++ []
theorem dksX0_swrOf_0 : cX0_swrOf.data.toList.drop 0 = dktX0_swrOf_0 := by decide +kernel
theorem dX0_swrOf_0 : decode cX0_swrOf 0 = .ok (.aload_n 0, 1) := dk_42 (dk_at dksX0_swrOf_0 0 rfl rfl)
theorem dX0_swrOf_1 : decode cX0_swrOf 1 = .ok (.getfield 89, 3) := dk_180 0 89 (dk_at dksX0_swrOf_0 1 rfl rfl)
theorem dX0_swrOf_4 : decode cX0_swrOf 4 = .ok (.aload_n 0, 1) := dk_42 (dk_at dksX0_swrOf_0 4 rfl rfl)
theorem dX0_swrOf_5 : decode cX0_swrOf 5 = .ok (.getfield 114, 3) := dk_180 0 114 (dk_at dksX0_swrOf_0 5 rfl rfl)
theorem dX0_swrOf_8 : decode cX0_swrOf 8 = .ok (.getfield 202, 3) := dk_180 0 202 (dk_at dksX0_swrOf_0 8 rfl rfl)
theorem dX0_swrOf_11 : decode cX0_swrOf 11 = .ok (.iload_n 1, 1) := dk_27 (dk_at dksX0_swrOf_0 11 rfl rfl)
theorem dX0_swrOf_12 : decode cX0_swrOf 12 = .ok (.invokevirtual 246, 3) := dk_182 0 246 (dk_at dksX0_swrOf_0 12 rfl rfl)
theorem dX0_swrOf_15 : decode cX0_swrOf 15 = .ok (.invokevirtual 254, 3) := dk_182 0 254 (dk_at dksX0_swrOf_0 15 rfl rfl)
theorem dX0_swrOf_18 : decode cX0_swrOf 18 = .ok (.ireturn, 1) := dk_172 (dk_at dksX0_swrOf_0 18 rfl rfl)
abbrev cX0_swrWith : ByteArray := prog_1_method_36_code
def yX0_swrWith : MethodName := ⟨RX0, "swrWith", "(III)I"⟩
def dkwX0_swrWith_1 : List UInt8 := [182, 1, 4, 167, 0, 4, 2, 172]
abbrev dktX0_swrWith_1 : List UInt8 := dkwX0_swrWith_1 ++ []
def dkwX0_swrWith_0 : List UInt8 := [42, 27, 28, 29, 182, 0, 238, 153, 0, 23, 42, 187, 0, 206, 89, 27, 28, 29, 183, 0, 225, 182, 0, 211]
abbrev dktX0_swrWith_0 : List UInt8 := dkwX0_swrWith_0 ++ dktX0_swrWith_1
theorem dksX0_swrWith_0 : cX0_swrWith.data.toList.drop 0 = dktX0_swrWith_0 := by decide +kernel
theorem dksX0_swrWith_1 : cX0_swrWith.data.toList.drop 24 = dktX0_swrWith_1 := dk_seg dksX0_swrWith_0 24 rfl rfl
theorem dX0_swrWith_0 : decode cX0_swrWith 0 = .ok (.aload_n 0, 1) := dk_42 (dk_at dksX0_swrWith_0 0 rfl rfl)
theorem dX0_swrWith_1 : decode cX0_swrWith 1 = .ok (.iload_n 1, 1) := dk_27 (dk_at dksX0_swrWith_0 1 rfl rfl)
theorem dX0_swrWith_2 : decode cX0_swrWith 2 = .ok (.iload_n 2, 1) := dk_28 (dk_at dksX0_swrWith_0 2 rfl rfl)
theorem dX0_swrWith_3 : decode cX0_swrWith 3 = .ok (.iload_n 3, 1) := dk_29 (dk_at dksX0_swrWith_0 3 rfl rfl)
theorem dX0_swrWith_4 : decode cX0_swrWith 4 = .ok (.invokevirtual 238, 3) := dk_182 0 238 (dk_at dksX0_swrWith_0 4 rfl rfl)
theorem dX0_swrWith_7 : decode cX0_swrWith 7 = .ok (.ifCond .eq 23, 3) := dk_153 0 23 (dk_at dksX0_swrWith_0 7 rfl rfl)
theorem dX0_swrWith_10 : decode cX0_swrWith 10 = .ok (.aload_n 0, 1) := dk_42 (dk_at dksX0_swrWith_0 10 rfl rfl)
theorem dX0_swrWith_11 : decode cX0_swrWith 11 = .ok (.new 206, 3) := dk_187 0 206 (dk_at dksX0_swrWith_0 11 rfl rfl)
theorem dX0_swrWith_14 : decode cX0_swrWith 14 = .ok (.dup, 1) := dk_89 (dk_at dksX0_swrWith_0 14 rfl rfl)
theorem dX0_swrWith_15 : decode cX0_swrWith 15 = .ok (.iload_n 1, 1) := dk_27 (dk_at dksX0_swrWith_0 15 rfl rfl)
theorem dX0_swrWith_16 : decode cX0_swrWith 16 = .ok (.iload_n 2, 1) := dk_28 (dk_at dksX0_swrWith_0 16 rfl rfl)
theorem dX0_swrWith_17 : decode cX0_swrWith 17 = .ok (.iload_n 3, 1) := dk_29 (dk_at dksX0_swrWith_0 17 rfl rfl)
theorem dX0_swrWith_18 : decode cX0_swrWith 18 = .ok (.invokespecial 225, 3) := dk_183 0 225 (dk_at dksX0_swrWith_0 18 rfl rfl)
theorem dX0_swrWith_21 : decode cX0_swrWith 21 = .ok (.invokevirtual 211, 3) := dk_182 0 211 (dk_at dksX0_swrWith_0 21 rfl rfl)
theorem dX0_swrWith_24 : decode cX0_swrWith 24 = .ok (.invokevirtual 260, 3) := dk_182 1 4 (dk_at dksX0_swrWith_1 0 rfl rfl)
theorem dX0_swrWith_27 : decode cX0_swrWith 27 = .ok (.goto 4, 3) := dk_167 0 4 (dk_at dksX0_swrWith_1 3 rfl rfl)
theorem dX0_swrWith_30 : decode cX0_swrWith 30 = .ok (.iconst (-1), 1) := dk_2 (dk_at dksX0_swrWith_1 6 rfl rfl)
theorem dX0_swrWith_31 : decode cX0_swrWith 31 = .ok (.ireturn, 1) := dk_172 (dk_at dksX0_swrWith_1 7 rfl rfl)
abbrev cX0_swrBy : ByteArray := prog_1_method_35_code
def yX0_swrBy : MethodName := ⟨RX0, "swrBy", "(I)I"⟩
def dkwX0_swrBy_0 : List UInt8 := [42, 180, 0, 89, 27, 42, 180, 0, 114, 180, 0, 196, 182, 0, 246, 182, 0, 254, 172]
abbrev dktX0_swrBy_0 : List UInt8 := dkwX0_swrBy_0 ++ []
theorem dksX0_swrBy_0 : cX0_swrBy.data.toList.drop 0 = dktX0_swrBy_0 := by decide +kernel
theorem dX0_swrBy_0 : decode cX0_swrBy 0 = .ok (.aload_n 0, 1) := dk_42 (dk_at dksX0_swrBy_0 0 rfl rfl)
theorem dX0_swrBy_1 : decode cX0_swrBy 1 = .ok (.getfield 89, 3) := dk_180 0 89 (dk_at dksX0_swrBy_0 1 rfl rfl)
theorem dX0_swrBy_4 : decode cX0_swrBy 4 = .ok (.iload_n 1, 1) := dk_27 (dk_at dksX0_swrBy_0 4 rfl rfl)
theorem dX0_swrBy_5 : decode cX0_swrBy 5 = .ok (.aload_n 0, 1) := dk_42 (dk_at dksX0_swrBy_0 5 rfl rfl)
theorem dX0_swrBy_6 : decode cX0_swrBy 6 = .ok (.getfield 114, 3) := dk_180 0 114 (dk_at dksX0_swrBy_0 6 rfl rfl)
theorem dX0_swrBy_9 : decode cX0_swrBy 9 = .ok (.getfield 196, 3) := dk_180 0 196 (dk_at dksX0_swrBy_0 9 rfl rfl)
theorem dX0_swrBy_12 : decode cX0_swrBy 12 = .ok (.invokevirtual 246, 3) := dk_182 0 246 (dk_at dksX0_swrBy_0 12 rfl rfl)
theorem dX0_swrBy_15 : decode cX0_swrBy 15 = .ok (.invokevirtual 254, 3) := dk_182 0 254 (dk_at dksX0_swrBy_0 15 rfl rfl)
theorem dX0_swrBy_18 : decode cX0_swrBy 18 = .ok (.ireturn, 1) := dk_172 (dk_at dksX0_swrBy_0 18 rfl rfl)
abbrev cX0_efficiency : ByteArray := prog_1_method_37_code
def yX0_efficiency : MethodName := ⟨RX0, "efficiency", "()I"⟩
def dkwX0_efficiency_0 : List UInt8 := [42, 182, 0, 172, 153, 0, 13, 42, 182, 0, 250, 182, 1, 7, 167, 0, 4, 2, 172]
abbrev dktX0_efficiency_0 : List UInt8 := dkwX0_efficiency_0 ++ []
theorem dksX0_efficiency_0 : cX0_efficiency.data.toList.drop 0 = dktX0_efficiency_0 := by decide +kernel
theorem dX0_efficiency_0 : decode cX0_efficiency 0 = .ok (.aload_n 0, 1) := dk_42 (dk_at dksX0_efficiency_0 0 rfl rfl)
theorem dX0_efficiency_1 : decode cX0_efficiency 1 = .ok (.invokevirtual 172, 3) := dk_182 0 172 (dk_at dksX0_efficiency_0 1 rfl rfl)
theorem dX0_efficiency_4 : decode cX0_efficiency 4 = .ok (.ifCond .eq 13, 3) := dk_153 0 13 (dk_at dksX0_efficiency_0 4 rfl rfl)
theorem dX0_efficiency_7 : decode cX0_efficiency 7 = .ok (.aload_n 0, 1) := dk_42 (dk_at dksX0_efficiency_0 7 rfl rfl)
theorem dX0_efficiency_8 : decode cX0_efficiency 8 = .ok (.invokevirtual 250, 3) := dk_182 0 250 (dk_at dksX0_efficiency_0 8 rfl rfl)
theorem dX0_efficiency_11 : decode cX0_efficiency 11 = .ok (.invokevirtual 263, 3) := dk_182 1 7 (dk_at dksX0_efficiency_0 11 rfl rfl)
theorem dX0_efficiency_14 : decode cX0_efficiency 14 = .ok (.goto 4, 3) := dk_167 0 4 (dk_at dksX0_efficiency_0 14 rfl rfl)
theorem dX0_efficiency_17 : decode cX0_efficiency 17 = .ok (.iconst (-1), 1) := dk_2 (dk_at dksX0_efficiency_0 17 rfl rfl)
theorem dX0_efficiency_18 : decode cX0_efficiency 18 = .ok (.ireturn, 1) := dk_172 (dk_at dksX0_efficiency_0 18 rfl rfl)
abbrev cX0_capacitorVoltage : ByteArray := prog_1_method_38_code
def yX0_capacitorVoltage : MethodName := ⟨RX0, "capacitorVoltage", "()I"⟩
def dkwX0_capacitorVoltage_0 : List UInt8 := [42, 182, 0, 172, 153, 0, 13, 42, 182, 0, 250, 182, 1, 10, 167, 0, 4, 2, 172]
abbrev dktX0_capacitorVoltage_0 : List UInt8 := dkwX0_capacitorVoltage_0 ++ []
theorem dksX0_capacitorVoltage_0 : cX0_capacitorVoltage.data.toList.drop 0 = dktX0_capacitorVoltage_0 := by decide +kernel
theorem dX0_capacitorVoltage_0 : decode cX0_capacitorVoltage 0 = .ok (.aload_n 0, 1) := dk_42 (dk_at dksX0_capacitorVoltage_0 0 rfl rfl)
theorem dX0_capacitorVoltage_1 : decode cX0_capacitorVoltage 1 = .ok (.invokevirtual 172, 3) := dk_182 0 172 (dk_at dksX0_capacitorVoltage_0 1 rfl rfl)
theorem dX0_capacitorVoltage_4 : decode cX0_capacitorVoltage 4 = .ok (.ifCond .eq 13, 3) := dk_153 0 13 (dk_at dksX0_capacitorVoltage_0 4 rfl rfl)
theorem dX0_capacitorVoltage_7 : decode cX0_capacitorVoltage 7 = .ok (.aload_n 0, 1) := dk_42 (dk_at dksX0_capacitorVoltage_0 7 rfl rfl)
theorem dX0_capacitorVoltage_8 : decode cX0_capacitorVoltage 8 = .ok (.invokevirtual 250, 3) := dk_182 0 250 (dk_at dksX0_capacitorVoltage_0 8 rfl rfl)
theorem dX0_capacitorVoltage_11 : decode cX0_capacitorVoltage 11 = .ok (.invokevirtual 266, 3) := dk_182 1 10 (dk_at dksX0_capacitorVoltage_0 11 rfl rfl)
theorem dX0_capacitorVoltage_14 : decode cX0_capacitorVoltage 14 = .ok (.goto 4, 3) := dk_167 0 4 (dk_at dksX0_capacitorVoltage_0 14 rfl rfl)
theorem dX0_capacitorVoltage_17 : decode cX0_capacitorVoltage 17 = .ok (.iconst (-1), 1) := dk_2 (dk_at dksX0_capacitorVoltage_0 17 rfl rfl)
theorem dX0_capacitorVoltage_18 : decode cX0_capacitorVoltage 18 = .ok (.ireturn, 1) := dk_172 (dk_at dksX0_capacitorVoltage_0 18 rfl rfl)
abbrev cX0_greatestPower : ByteArray := prog_1_method_39_code
def yX0_greatestPower : MethodName := ⟨RX0, "greatestPower", "()I"⟩
def dkwX0_greatestPower_2 : List UInt8 := [167, 255, 228, 16, 254, 172]
abbrev dktX0_greatestPower_2 : List UInt8 := dkwX0_greatestPower_2 ++ []
def dkwX0_greatestPower_1 : List UInt8 := [180, 0, 89, 27, 182, 1, 13, 42, 180, 0, 100, 180, 1, 16, 163, 0, 5, 27, 172, 132, 1, 255]
abbrev dktX0_greatestPower_1 : List UInt8 := dkwX0_greatestPower_1 ++ dktX0_greatestPower_2
def dkwX0_greatestPower_0 : List UInt8 := [42, 182, 0, 172, 154, 0, 5, 2, 172, 42, 182, 0, 250, 87, 17, 5, 220, 60, 27, 4, 161, 0, 29, 42]
abbrev dktX0_greatestPower_0 : List UInt8 := dkwX0_greatestPower_0 ++ dktX0_greatestPower_1
theorem dksX0_greatestPower_0 : cX0_greatestPower.data.toList.drop 0 = dktX0_greatestPower_0 := by decide +kernel
theorem dksX0_greatestPower_1 : cX0_greatestPower.data.toList.drop 24 = dktX0_greatestPower_1 := dk_seg dksX0_greatestPower_0 24 rfl rfl
theorem dksX0_greatestPower_2 : cX0_greatestPower.data.toList.drop 46 = dktX0_greatestPower_2 := dk_seg dksX0_greatestPower_1 22 rfl rfl
theorem dX0_greatestPower_0 : decode cX0_greatestPower 0 = .ok (.aload_n 0, 1) := dk_42 (dk_at dksX0_greatestPower_0 0 rfl rfl)
theorem dX0_greatestPower_1 : decode cX0_greatestPower 1 = .ok (.invokevirtual 172, 3) := dk_182 0 172 (dk_at dksX0_greatestPower_0 1 rfl rfl)
theorem dX0_greatestPower_4 : decode cX0_greatestPower 4 = .ok (.ifCond .ne 5, 3) := dk_154 0 5 (dk_at dksX0_greatestPower_0 4 rfl rfl)
theorem dX0_greatestPower_7 : decode cX0_greatestPower 7 = .ok (.iconst (-1), 1) := dk_2 (dk_at dksX0_greatestPower_0 7 rfl rfl)
theorem dX0_greatestPower_8 : decode cX0_greatestPower 8 = .ok (.ireturn, 1) := dk_172 (dk_at dksX0_greatestPower_0 8 rfl rfl)
theorem dX0_greatestPower_9 : decode cX0_greatestPower 9 = .ok (.aload_n 0, 1) := dk_42 (dk_at dksX0_greatestPower_0 9 rfl rfl)
theorem dX0_greatestPower_10 : decode cX0_greatestPower 10 = .ok (.invokevirtual 250, 3) := dk_182 0 250 (dk_at dksX0_greatestPower_0 10 rfl rfl)
theorem dX0_greatestPower_13 : decode cX0_greatestPower 13 = .ok (.pop, 1) := dk_87 (dk_at dksX0_greatestPower_0 13 rfl rfl)
theorem dX0_greatestPower_14 : decode cX0_greatestPower 14 = .ok (.sipush 1500, 3) := dk_17 5 220 (dk_at dksX0_greatestPower_0 14 rfl rfl)
theorem dX0_greatestPower_17 : decode cX0_greatestPower 17 = .ok (.istore_n 1, 1) := dk_60 (dk_at dksX0_greatestPower_0 17 rfl rfl)
theorem dX0_greatestPower_18 : decode cX0_greatestPower 18 = .ok (.iload_n 1, 1) := dk_27 (dk_at dksX0_greatestPower_0 18 rfl rfl)
theorem dX0_greatestPower_19 : decode cX0_greatestPower 19 = .ok (.iconst 1, 1) := dk_4 (dk_at dksX0_greatestPower_0 19 rfl rfl)
theorem dX0_greatestPower_20 : decode cX0_greatestPower 20 = .ok (.if_icmp .lt 29, 3) := dk_161 0 29 (dk_at dksX0_greatestPower_0 20 rfl rfl)
theorem dX0_greatestPower_23 : decode cX0_greatestPower 23 = .ok (.aload_n 0, 1) := dk_42 (dk_at dksX0_greatestPower_0 23 rfl rfl)
theorem dX0_greatestPower_24 : decode cX0_greatestPower 24 = .ok (.getfield 89, 3) := dk_180 0 89 (dk_at dksX0_greatestPower_1 0 rfl rfl)
theorem dX0_greatestPower_27 : decode cX0_greatestPower 27 = .ok (.iload_n 1, 1) := dk_27 (dk_at dksX0_greatestPower_1 3 rfl rfl)
theorem dX0_greatestPower_28 : decode cX0_greatestPower 28 = .ok (.invokevirtual 269, 3) := dk_182 1 13 (dk_at dksX0_greatestPower_1 4 rfl rfl)
theorem dX0_greatestPower_31 : decode cX0_greatestPower 31 = .ok (.aload_n 0, 1) := dk_42 (dk_at dksX0_greatestPower_1 7 rfl rfl)
theorem dX0_greatestPower_32 : decode cX0_greatestPower 32 = .ok (.getfield 100, 3) := dk_180 0 100 (dk_at dksX0_greatestPower_1 8 rfl rfl)
theorem dX0_greatestPower_35 : decode cX0_greatestPower 35 = .ok (.getfield 272, 3) := dk_180 1 16 (dk_at dksX0_greatestPower_1 11 rfl rfl)
theorem dX0_greatestPower_38 : decode cX0_greatestPower 38 = .ok (.if_icmp .gt 5, 3) := dk_163 0 5 (dk_at dksX0_greatestPower_1 14 rfl rfl)
theorem dX0_greatestPower_41 : decode cX0_greatestPower 41 = .ok (.iload_n 1, 1) := dk_27 (dk_at dksX0_greatestPower_1 17 rfl rfl)
theorem dX0_greatestPower_42 : decode cX0_greatestPower 42 = .ok (.ireturn, 1) := dk_172 (dk_at dksX0_greatestPower_1 18 rfl rfl)
theorem dX0_greatestPower_43 : decode cX0_greatestPower 43 = .ok (.iinc 1 (-1), 3) := dk_132 1 255 (dk_at dksX0_greatestPower_1 19 rfl rfl)
theorem dX0_greatestPower_46 : decode cX0_greatestPower 46 = .ok (.goto (-28), 3) := dk_167 255 228 (dk_at dksX0_greatestPower_2 0 rfl rfl)
theorem dX0_greatestPower_49 : decode cX0_greatestPower 49 = .ok (.bipush (-2), 2) := dk_16 254 (dk_at dksX0_greatestPower_2 3 rfl rfl)
theorem dX0_greatestPower_51 : decode cX0_greatestPower 51 = .ok (.ireturn, 1) := dk_172 (dk_at dksX0_greatestPower_2 5 rfl rfl)
abbrev cX0_highestMatched : ByteArray := prog_1_method_42_code
def yX0_highestMatched : MethodName := ⟨RX0, "highestMatched", "()I"⟩
def dkwX0_highestMatched_0 : List UInt8 := [42, 182, 0, 172, 153, 0, 12, 42, 16, 10, 182, 1, 25, 167, 0, 4, 2, 172]
abbrev dktX0_highestMatched_0 : List UInt8 := dkwX0_highestMatched_0 ++ []
theorem dksX0_highestMatched_0 : cX0_highestMatched.data.toList.drop 0 = dktX0_highestMatched_0 := by decide +kernel
theorem dX0_highestMatched_0 : decode cX0_highestMatched 0 = .ok (.aload_n 0, 1) := dk_42 (dk_at dksX0_highestMatched_0 0 rfl rfl)
theorem dX0_highestMatched_1 : decode cX0_highestMatched 1 = .ok (.invokevirtual 172, 3) := dk_182 0 172 (dk_at dksX0_highestMatched_0 1 rfl rfl)
theorem dX0_highestMatched_4 : decode cX0_highestMatched 4 = .ok (.ifCond .eq 12, 3) := dk_153 0 12 (dk_at dksX0_highestMatched_0 4 rfl rfl)
theorem dX0_highestMatched_7 : decode cX0_highestMatched 7 = .ok (.aload_n 0, 1) := dk_42 (dk_at dksX0_highestMatched_0 7 rfl rfl)
theorem dX0_highestMatched_8 : decode cX0_highestMatched 8 = .ok (.bipush 10, 2) := dk_16 10 (dk_at dksX0_highestMatched_0 8 rfl rfl)
theorem dX0_highestMatched_10 : decode cX0_highestMatched 10 = .ok (.invokevirtual 281, 3) := dk_182 1 25 (dk_at dksX0_highestMatched_0 10 rfl rfl)
theorem dX0_highestMatched_13 : decode cX0_highestMatched 13 = .ok (.goto 4, 3) := dk_167 0 4 (dk_at dksX0_highestMatched_0 13 rfl rfl)
theorem dX0_highestMatched_16 : decode cX0_highestMatched 16 = .ok (.iconst (-1), 1) := dk_2 (dk_at dksX0_highestMatched_0 16 rfl rfl)
theorem dX0_highestMatched_17 : decode cX0_highestMatched 17 = .ok (.ireturn, 1) := dk_172 (dk_at dksX0_highestMatched_0 17 rfl rfl)
abbrev cX0_farthestMatched : ByteArray := prog_1_method_41_code
def yX0_farthestMatched : MethodName := ⟨RX0, "farthestMatched", "(I)I"⟩
def dkwX0_farthestMatched_2 : List UInt8 := [167, 255, 233, 28, 172]
abbrev dktX0_farthestMatched_2 : List UInt8 := dkwX0_farthestMatched_2 ++ []
def dkwX0_farthestMatched_1 : List UInt8 := [61, 28, 27, 96, 184, 0, 176, 153, 0, 20, 42, 28, 27, 96, 182, 1, 22, 153, 0, 10, 28, 27, 96, 61]
abbrev dktX0_farthestMatched_1 : List UInt8 := dkwX0_farthestMatched_1 ++ dktX0_farthestMatched_2
def dkwX0_farthestMatched_0 : List UInt8 := [42, 42, 180, 0, 114, 180, 0, 196, 182, 1, 22, 154, 0, 6, 16, 254, 172, 42, 180, 0, 114, 180, 0, 196]
abbrev dktX0_farthestMatched_0 : List UInt8 := dkwX0_farthestMatched_0 ++ dktX0_farthestMatched_1
theorem dksX0_farthestMatched_0 : cX0_farthestMatched.data.toList.drop 0 = dktX0_farthestMatched_0 := by decide +kernel
theorem dksX0_farthestMatched_1 : cX0_farthestMatched.data.toList.drop 24 = dktX0_farthestMatched_1 := dk_seg dksX0_farthestMatched_0 24 rfl rfl
theorem dksX0_farthestMatched_2 : cX0_farthestMatched.data.toList.drop 48 = dktX0_farthestMatched_2 := dk_seg dksX0_farthestMatched_1 24 rfl rfl
theorem dX0_farthestMatched_0 : decode cX0_farthestMatched 0 = .ok (.aload_n 0, 1) := dk_42 (dk_at dksX0_farthestMatched_0 0 rfl rfl)
theorem dX0_farthestMatched_1 : decode cX0_farthestMatched 1 = .ok (.aload_n 0, 1) := dk_42 (dk_at dksX0_farthestMatched_0 1 rfl rfl)
theorem dX0_farthestMatched_2 : decode cX0_farthestMatched 2 = .ok (.getfield 114, 3) := dk_180 0 114 (dk_at dksX0_farthestMatched_0 2 rfl rfl)
theorem dX0_farthestMatched_5 : decode cX0_farthestMatched 5 = .ok (.getfield 196, 3) := dk_180 0 196 (dk_at dksX0_farthestMatched_0 5 rfl rfl)
theorem dX0_farthestMatched_8 : decode cX0_farthestMatched 8 = .ok (.invokevirtual 278, 3) := dk_182 1 22 (dk_at dksX0_farthestMatched_0 8 rfl rfl)
theorem dX0_farthestMatched_11 : decode cX0_farthestMatched 11 = .ok (.ifCond .ne 6, 3) := dk_154 0 6 (dk_at dksX0_farthestMatched_0 11 rfl rfl)
theorem dX0_farthestMatched_14 : decode cX0_farthestMatched 14 = .ok (.bipush (-2), 2) := dk_16 254 (dk_at dksX0_farthestMatched_0 14 rfl rfl)
theorem dX0_farthestMatched_16 : decode cX0_farthestMatched 16 = .ok (.ireturn, 1) := dk_172 (dk_at dksX0_farthestMatched_0 16 rfl rfl)
theorem dX0_farthestMatched_17 : decode cX0_farthestMatched 17 = .ok (.aload_n 0, 1) := dk_42 (dk_at dksX0_farthestMatched_0 17 rfl rfl)
theorem dX0_farthestMatched_18 : decode cX0_farthestMatched 18 = .ok (.getfield 114, 3) := dk_180 0 114 (dk_at dksX0_farthestMatched_0 18 rfl rfl)
theorem dX0_farthestMatched_21 : decode cX0_farthestMatched 21 = .ok (.getfield 196, 3) := dk_180 0 196 (dk_at dksX0_farthestMatched_0 21 rfl rfl)
theorem dX0_farthestMatched_24 : decode cX0_farthestMatched 24 = .ok (.istore_n 2, 1) := dk_61 (dk_at dksX0_farthestMatched_1 0 rfl rfl)
theorem dX0_farthestMatched_25 : decode cX0_farthestMatched 25 = .ok (.iload_n 2, 1) := dk_28 (dk_at dksX0_farthestMatched_1 1 rfl rfl)
theorem dX0_farthestMatched_26 : decode cX0_farthestMatched 26 = .ok (.iload_n 1, 1) := dk_27 (dk_at dksX0_farthestMatched_1 2 rfl rfl)
theorem dX0_farthestMatched_27 : decode cX0_farthestMatched 27 = .ok (.iadd, 1) := dk_96 (dk_at dksX0_farthestMatched_1 3 rfl rfl)
theorem dX0_farthestMatched_28 : decode cX0_farthestMatched 28 = .ok (.invokestatic 176, 3) := dk_184 0 176 (dk_at dksX0_farthestMatched_1 4 rfl rfl)
theorem dX0_farthestMatched_31 : decode cX0_farthestMatched 31 = .ok (.ifCond .eq 20, 3) := dk_153 0 20 (dk_at dksX0_farthestMatched_1 7 rfl rfl)
theorem dX0_farthestMatched_34 : decode cX0_farthestMatched 34 = .ok (.aload_n 0, 1) := dk_42 (dk_at dksX0_farthestMatched_1 10 rfl rfl)
theorem dX0_farthestMatched_35 : decode cX0_farthestMatched 35 = .ok (.iload_n 2, 1) := dk_28 (dk_at dksX0_farthestMatched_1 11 rfl rfl)
theorem dX0_farthestMatched_36 : decode cX0_farthestMatched 36 = .ok (.iload_n 1, 1) := dk_27 (dk_at dksX0_farthestMatched_1 12 rfl rfl)
theorem dX0_farthestMatched_37 : decode cX0_farthestMatched 37 = .ok (.iadd, 1) := dk_96 (dk_at dksX0_farthestMatched_1 13 rfl rfl)
theorem dX0_farthestMatched_38 : decode cX0_farthestMatched 38 = .ok (.invokevirtual 278, 3) := dk_182 1 22 (dk_at dksX0_farthestMatched_1 14 rfl rfl)
theorem dX0_farthestMatched_41 : decode cX0_farthestMatched 41 = .ok (.ifCond .eq 10, 3) := dk_153 0 10 (dk_at dksX0_farthestMatched_1 17 rfl rfl)
theorem dX0_farthestMatched_44 : decode cX0_farthestMatched 44 = .ok (.iload_n 2, 1) := dk_28 (dk_at dksX0_farthestMatched_1 20 rfl rfl)
theorem dX0_farthestMatched_45 : decode cX0_farthestMatched 45 = .ok (.iload_n 1, 1) := dk_27 (dk_at dksX0_farthestMatched_1 21 rfl rfl)
theorem dX0_farthestMatched_46 : decode cX0_farthestMatched 46 = .ok (.iadd, 1) := dk_96 (dk_at dksX0_farthestMatched_1 22 rfl rfl)
theorem dX0_farthestMatched_47 : decode cX0_farthestMatched 47 = .ok (.istore_n 2, 1) := dk_61 (dk_at dksX0_farthestMatched_1 23 rfl rfl)
theorem dX0_farthestMatched_48 : decode cX0_farthestMatched 48 = .ok (.goto (-23), 3) := dk_167 255 233 (dk_at dksX0_farthestMatched_2 0 rfl rfl)
theorem dX0_farthestMatched_51 : decode cX0_farthestMatched 51 = .ok (.iload_n 2, 1) := dk_28 (dk_at dksX0_farthestMatched_2 3 rfl rfl)
theorem dX0_farthestMatched_52 : decode cX0_farthestMatched 52 = .ok (.ireturn, 1) := dk_172 (dk_at dksX0_farthestMatched_2 4 rfl rfl)
abbrev cX0_isMatched : ByteArray := prog_1_method_40_code
def yX0_isMatched : MethodName := ⟨RX0, "isMatched", "(I)Z"⟩
def dkwX0_isMatched_0 : List UInt8 := [42, 27, 182, 1, 1, 42, 180, 0, 100, 180, 1, 19, 163, 0, 7, 4, 167, 0, 4, 3, 172]
abbrev dktX0_isMatched_0 : List UInt8 := dkwX0_isMatched_0 ++ []
theorem dksX0_isMatched_0 : cX0_isMatched.data.toList.drop 0 = dktX0_isMatched_0 := by decide +kernel
theorem dX0_isMatched_0 : decode cX0_isMatched 0 = .ok (.aload_n 0, 1) := dk_42 (dk_at dksX0_isMatched_0 0 rfl rfl)
theorem dX0_isMatched_1 : decode cX0_isMatched 1 = .ok (.iload_n 1, 1) := dk_27 (dk_at dksX0_isMatched_0 1 rfl rfl)
theorem dX0_isMatched_2 : decode cX0_isMatched 2 = .ok (.invokevirtual 257, 3) := dk_182 1 1 (dk_at dksX0_isMatched_0 2 rfl rfl)
theorem dX0_isMatched_5 : decode cX0_isMatched 5 = .ok (.aload_n 0, 1) := dk_42 (dk_at dksX0_isMatched_0 5 rfl rfl)
theorem dX0_isMatched_6 : decode cX0_isMatched 6 = .ok (.getfield 100, 3) := dk_180 0 100 (dk_at dksX0_isMatched_0 6 rfl rfl)
theorem dX0_isMatched_9 : decode cX0_isMatched 9 = .ok (.getfield 275, 3) := dk_180 1 19 (dk_at dksX0_isMatched_0 9 rfl rfl)
theorem dX0_isMatched_12 : decode cX0_isMatched 12 = .ok (.if_icmp .gt 7, 3) := dk_163 0 7 (dk_at dksX0_isMatched_0 12 rfl rfl)
theorem dX0_isMatched_15 : decode cX0_isMatched 15 = .ok (.iconst 1, 1) := dk_4 (dk_at dksX0_isMatched_0 15 rfl rfl)
theorem dX0_isMatched_16 : decode cX0_isMatched 16 = .ok (.goto 4, 3) := dk_167 0 4 (dk_at dksX0_isMatched_0 16 rfl rfl)
theorem dX0_isMatched_19 : decode cX0_isMatched 19 = .ok (.iconst 0, 1) := dk_3 (dk_at dksX0_isMatched_0 19 rfl rfl)
theorem dX0_isMatched_20 : decode cX0_isMatched 20 = .ok (.ireturn, 1) := dk_172 (dk_at dksX0_isMatched_0 20 rfl rfl)
abbrev cX0_lowestMatched : ByteArray := prog_1_method_43_code
def yX0_lowestMatched : MethodName := ⟨RX0, "lowestMatched", "()I"⟩
def dkwX0_lowestMatched_0 : List UInt8 := [42, 182, 0, 172, 153, 0, 12, 42, 16, 246, 182, 1, 25, 167, 0, 4, 2, 172]
abbrev dktX0_lowestMatched_0 : List UInt8 := dkwX0_lowestMatched_0 ++ []
theorem dksX0_lowestMatched_0 : cX0_lowestMatched.data.toList.drop 0 = dktX0_lowestMatched_0 := by decide +kernel
theorem dX0_lowestMatched_0 : decode cX0_lowestMatched 0 = .ok (.aload_n 0, 1) := dk_42 (dk_at dksX0_lowestMatched_0 0 rfl rfl)
theorem dX0_lowestMatched_1 : decode cX0_lowestMatched 1 = .ok (.invokevirtual 172, 3) := dk_182 0 172 (dk_at dksX0_lowestMatched_0 1 rfl rfl)
theorem dX0_lowestMatched_4 : decode cX0_lowestMatched 4 = .ok (.ifCond .eq 12, 3) := dk_153 0 12 (dk_at dksX0_lowestMatched_0 4 rfl rfl)
theorem dX0_lowestMatched_7 : decode cX0_lowestMatched 7 = .ok (.aload_n 0, 1) := dk_42 (dk_at dksX0_lowestMatched_0 7 rfl rfl)
theorem dX0_lowestMatched_8 : decode cX0_lowestMatched 8 = .ok (.bipush (-10), 2) := dk_16 246 (dk_at dksX0_lowestMatched_0 8 rfl rfl)
theorem dX0_lowestMatched_10 : decode cX0_lowestMatched 10 = .ok (.invokevirtual 281, 3) := dk_182 1 25 (dk_at dksX0_lowestMatched_0 10 rfl rfl)
theorem dX0_lowestMatched_13 : decode cX0_lowestMatched 13 = .ok (.goto 4, 3) := dk_167 0 4 (dk_at dksX0_lowestMatched_0 13 rfl rfl)
theorem dX0_lowestMatched_16 : decode cX0_lowestMatched 16 = .ok (.iconst (-1), 1) := dk_2 (dk_at dksX0_lowestMatched_0 16 rfl rfl)
theorem dX0_lowestMatched_17 : decode cX0_lowestMatched 17 = .ok (.ireturn, 1) := dk_172 (dk_at dksX0_lowestMatched_0 17 rfl rfl)
abbrev cX0_worstInBand : ByteArray := prog_1_method_44_code
def yX0_worstInBand : MethodName := ⟨RX0, "worstInBand", "(I)I"⟩
def dkwX0_worstInBand_3 : List UInt8 := [62, 21, 4, 61, 132, 4, 10, 167, 255, 219, 28, 172]
abbrev dktX0_worstInBand_3 : List UInt8 := dkwX0_worstInBand_3 ++ []
def dkwX0_worstInBand_2 : List UInt8 := [180, 1, 34, 27, 46, 163, 0, 29, 42, 21, 4, 182, 1, 1, 54, 5, 21, 5, 29, 164, 0, 9, 21, 5]
abbrev dktX0_worstInBand_2 : List UInt8 := dkwX0_worstInBand_2 ++ dktX0_worstInBand_3
def dkwX0_worstInBand_1 : List UInt8 := [2, 172, 2, 61, 3, 62, 42, 180, 0, 100, 180, 1, 31, 27, 46, 54, 4, 21, 4, 42, 180, 0, 100]
abbrev dktX0_worstInBand_1 : List UInt8 := dkwX0_worstInBand_1 ++ dktX0_worstInBand_2
def dkwX0_worstInBand_0 : List UInt8 := [42, 182, 0, 172, 153, 0, 20, 27, 3, 42, 180, 0, 100, 180, 1, 28, 4, 100, 184, 0, 125, 154, 0, 5]
abbrev dktX0_worstInBand_0 : List UInt8 := dkwX0_worstInBand_0 ++ dktX0_worstInBand_1
theorem dksX0_worstInBand_0 : cX0_worstInBand.data.toList.drop 0 = dktX0_worstInBand_0 := by decide +kernel
theorem dksX0_worstInBand_1 : cX0_worstInBand.data.toList.drop 24 = dktX0_worstInBand_1 := dk_seg dksX0_worstInBand_0 24 rfl rfl
theorem dksX0_worstInBand_2 : cX0_worstInBand.data.toList.drop 47 = dktX0_worstInBand_2 := dk_seg dksX0_worstInBand_1 23 rfl rfl
theorem dksX0_worstInBand_3 : cX0_worstInBand.data.toList.drop 71 = dktX0_worstInBand_3 := dk_seg dksX0_worstInBand_2 24 rfl rfl
theorem dX0_worstInBand_0 : decode cX0_worstInBand 0 = .ok (.aload_n 0, 1) := dk_42 (dk_at dksX0_worstInBand_0 0 rfl rfl)
theorem dX0_worstInBand_1 : decode cX0_worstInBand 1 = .ok (.invokevirtual 172, 3) := dk_182 0 172 (dk_at dksX0_worstInBand_0 1 rfl rfl)
theorem dX0_worstInBand_4 : decode cX0_worstInBand 4 = .ok (.ifCond .eq 20, 3) := dk_153 0 20 (dk_at dksX0_worstInBand_0 4 rfl rfl)
theorem dX0_worstInBand_7 : decode cX0_worstInBand 7 = .ok (.iload_n 1, 1) := dk_27 (dk_at dksX0_worstInBand_0 7 rfl rfl)
theorem dX0_worstInBand_8 : decode cX0_worstInBand 8 = .ok (.iconst 0, 1) := dk_3 (dk_at dksX0_worstInBand_0 8 rfl rfl)
theorem dX0_worstInBand_9 : decode cX0_worstInBand 9 = .ok (.aload_n 0, 1) := dk_42 (dk_at dksX0_worstInBand_0 9 rfl rfl)
theorem dX0_worstInBand_10 : decode cX0_worstInBand 10 = .ok (.getfield 100, 3) := dk_180 0 100 (dk_at dksX0_worstInBand_0 10 rfl rfl)
theorem dX0_worstInBand_13 : decode cX0_worstInBand 13 = .ok (.getfield 284, 3) := dk_180 1 28 (dk_at dksX0_worstInBand_0 13 rfl rfl)
theorem dX0_worstInBand_16 : decode cX0_worstInBand 16 = .ok (.iconst 1, 1) := dk_4 (dk_at dksX0_worstInBand_0 16 rfl rfl)
theorem dX0_worstInBand_17 : decode cX0_worstInBand 17 = .ok (.isub, 1) := dk_100 (dk_at dksX0_worstInBand_0 17 rfl rfl)
theorem dX0_worstInBand_18 : decode cX0_worstInBand 18 = .ok (.invokestatic 125, 3) := dk_184 0 125 (dk_at dksX0_worstInBand_0 18 rfl rfl)
theorem dX0_worstInBand_21 : decode cX0_worstInBand 21 = .ok (.ifCond .ne 5, 3) := dk_154 0 5 (dk_at dksX0_worstInBand_0 21 rfl rfl)
theorem dX0_worstInBand_24 : decode cX0_worstInBand 24 = .ok (.iconst (-1), 1) := dk_2 (dk_at dksX0_worstInBand_1 0 rfl rfl)
theorem dX0_worstInBand_25 : decode cX0_worstInBand 25 = .ok (.ireturn, 1) := dk_172 (dk_at dksX0_worstInBand_1 1 rfl rfl)
theorem dX0_worstInBand_26 : decode cX0_worstInBand 26 = .ok (.iconst (-1), 1) := dk_2 (dk_at dksX0_worstInBand_1 2 rfl rfl)
theorem dX0_worstInBand_27 : decode cX0_worstInBand 27 = .ok (.istore_n 2, 1) := dk_61 (dk_at dksX0_worstInBand_1 3 rfl rfl)
theorem dX0_worstInBand_28 : decode cX0_worstInBand 28 = .ok (.iconst 0, 1) := dk_3 (dk_at dksX0_worstInBand_1 4 rfl rfl)
theorem dX0_worstInBand_29 : decode cX0_worstInBand 29 = .ok (.istore_n 3, 1) := dk_62 (dk_at dksX0_worstInBand_1 5 rfl rfl)
theorem dX0_worstInBand_30 : decode cX0_worstInBand 30 = .ok (.aload_n 0, 1) := dk_42 (dk_at dksX0_worstInBand_1 6 rfl rfl)
theorem dX0_worstInBand_31 : decode cX0_worstInBand 31 = .ok (.getfield 100, 3) := dk_180 0 100 (dk_at dksX0_worstInBand_1 7 rfl rfl)
theorem dX0_worstInBand_34 : decode cX0_worstInBand 34 = .ok (.getfield 287, 3) := dk_180 1 31 (dk_at dksX0_worstInBand_1 10 rfl rfl)
theorem dX0_worstInBand_37 : decode cX0_worstInBand 37 = .ok (.iload_n 1, 1) := dk_27 (dk_at dksX0_worstInBand_1 13 rfl rfl)
theorem dX0_worstInBand_38 : decode cX0_worstInBand 38 = .ok (.iaload, 1) := dk_46 (dk_at dksX0_worstInBand_1 14 rfl rfl)
theorem dX0_worstInBand_39 : decode cX0_worstInBand 39 = .ok (.istore 4, 2) := dk_54 4 (dk_at dksX0_worstInBand_1 15 rfl rfl)
theorem dX0_worstInBand_41 : decode cX0_worstInBand 41 = .ok (.iload 4, 2) := dk_21 4 (dk_at dksX0_worstInBand_1 17 rfl rfl)
theorem dX0_worstInBand_43 : decode cX0_worstInBand 43 = .ok (.aload_n 0, 1) := dk_42 (dk_at dksX0_worstInBand_1 19 rfl rfl)
theorem dX0_worstInBand_44 : decode cX0_worstInBand 44 = .ok (.getfield 100, 3) := dk_180 0 100 (dk_at dksX0_worstInBand_1 20 rfl rfl)
theorem dX0_worstInBand_47 : decode cX0_worstInBand 47 = .ok (.getfield 290, 3) := dk_180 1 34 (dk_at dksX0_worstInBand_2 0 rfl rfl)
theorem dX0_worstInBand_50 : decode cX0_worstInBand 50 = .ok (.iload_n 1, 1) := dk_27 (dk_at dksX0_worstInBand_2 3 rfl rfl)
theorem dX0_worstInBand_51 : decode cX0_worstInBand 51 = .ok (.iaload, 1) := dk_46 (dk_at dksX0_worstInBand_2 4 rfl rfl)
theorem dX0_worstInBand_52 : decode cX0_worstInBand 52 = .ok (.if_icmp .gt 29, 3) := dk_163 0 29 (dk_at dksX0_worstInBand_2 5 rfl rfl)
theorem dX0_worstInBand_55 : decode cX0_worstInBand 55 = .ok (.aload_n 0, 1) := dk_42 (dk_at dksX0_worstInBand_2 8 rfl rfl)
theorem dX0_worstInBand_56 : decode cX0_worstInBand 56 = .ok (.iload 4, 2) := dk_21 4 (dk_at dksX0_worstInBand_2 9 rfl rfl)
theorem dX0_worstInBand_58 : decode cX0_worstInBand 58 = .ok (.invokevirtual 257, 3) := dk_182 1 1 (dk_at dksX0_worstInBand_2 11 rfl rfl)
theorem dX0_worstInBand_61 : decode cX0_worstInBand 61 = .ok (.istore 5, 2) := dk_54 5 (dk_at dksX0_worstInBand_2 14 rfl rfl)
theorem dX0_worstInBand_63 : decode cX0_worstInBand 63 = .ok (.iload 5, 2) := dk_21 5 (dk_at dksX0_worstInBand_2 16 rfl rfl)
theorem dX0_worstInBand_65 : decode cX0_worstInBand 65 = .ok (.iload_n 3, 1) := dk_29 (dk_at dksX0_worstInBand_2 18 rfl rfl)
theorem dX0_worstInBand_66 : decode cX0_worstInBand 66 = .ok (.if_icmp .le 9, 3) := dk_164 0 9 (dk_at dksX0_worstInBand_2 19 rfl rfl)
theorem dX0_worstInBand_69 : decode cX0_worstInBand 69 = .ok (.iload 5, 2) := dk_21 5 (dk_at dksX0_worstInBand_2 22 rfl rfl)
theorem dX0_worstInBand_71 : decode cX0_worstInBand 71 = .ok (.istore_n 3, 1) := dk_62 (dk_at dksX0_worstInBand_3 0 rfl rfl)
theorem dX0_worstInBand_72 : decode cX0_worstInBand 72 = .ok (.iload 4, 2) := dk_21 4 (dk_at dksX0_worstInBand_3 1 rfl rfl)
theorem dX0_worstInBand_74 : decode cX0_worstInBand 74 = .ok (.istore_n 2, 1) := dk_61 (dk_at dksX0_worstInBand_3 3 rfl rfl)
theorem dX0_worstInBand_75 : decode cX0_worstInBand 75 = .ok (.iinc 4 10, 3) := dk_132 4 10 (dk_at dksX0_worstInBand_3 4 rfl rfl)
theorem dX0_worstInBand_78 : decode cX0_worstInBand 78 = .ok (.goto (-37), 3) := dk_167 255 219 (dk_at dksX0_worstInBand_3 7 rfl rfl)
theorem dX0_worstInBand_81 : decode cX0_worstInBand 81 = .ok (.iload_n 2, 1) := dk_28 (dk_at dksX0_worstInBand_3 10 rfl rfl)
theorem dX0_worstInBand_82 : decode cX0_worstInBand 82 = .ok (.ireturn, 1) := dk_172 (dk_at dksX0_worstInBand_3 11 rfl rfl)
abbrev cX0_transmit : ByteArray := prog_1_method_45_code
def yX0_transmit : MethodName := ⟨RX0, "transmit", "(I)I"⟩
def dkwX0_transmit_6 : List UInt8 := [21, 4, 21, 6, 153, 0, 7, 4, 167, 0, 4, 3, 96, 54, 4, 132, 5, 1, 167, 255, 142, 21, 4, 172]
abbrev dktX0_transmit_6 : List UInt8 := dkwX0_transmit_6 ++ []
def dkwX0_transmit_5 : List UInt8 := [42, 180, 0, 114, 21, 6, 153, 0, 7, 3, 167, 0, 10, 42, 180, 0, 114, 180, 1, 40, 181, 1, 40]
abbrev dktX0_transmit_5 : List UInt8 := dkwX0_transmit_5 ++ dktX0_transmit_6
def dkwX0_transmit_4 : List UInt8 := [180, 0, 114, 21, 6, 153, 0, 15, 19, 1, 43, 7, 28, 104, 184, 1, 44, 167, 0, 4, 28, 182, 1, 50]
abbrev dktX0_transmit_4 : List UInt8 := dkwX0_transmit_4 ++ dktX0_transmit_5
def dkwX0_transmit_3 : List UInt8 := [181, 1, 40, 42, 180, 0, 114, 180, 1, 40, 6, 160, 0, 7, 4, 167, 0, 4, 3, 54, 6, 42]
abbrev dktX0_transmit_3 : List UInt8 := dkwX0_transmit_3 ++ dktX0_transmit_4
def dkwX0_transmit_2 : List UInt8 := [162, 0, 114, 42, 180, 0, 114, 29, 153, 0, 15, 42, 180, 0, 114, 180, 1, 40, 4, 96, 167, 0, 4, 3]
abbrev dktX0_transmit_2 : List UInt8 := dkwX0_transmit_2 ++ dktX0_transmit_3
def dkwX0_transmit_1 : List UInt8 := [182, 0, 250, 182, 0, 254, 61, 42, 180, 0, 89, 182, 1, 37, 62, 3, 54, 4, 3, 54, 5, 21, 5, 27]
abbrev dktX0_transmit_1 : List UInt8 := dkwX0_transmit_1 ++ dktX0_transmit_2
def dkwX0_transmit_0 : List UInt8 := [42, 182, 0, 172, 153, 0, 13, 27, 4, 16, 50, 184, 0, 125, 154, 0, 5, 2, 172, 42, 182, 0, 193, 42]
abbrev dktX0_transmit_0 : List UInt8 := dkwX0_transmit_0 ++ dktX0_transmit_1
theorem dksX0_transmit_0 : cX0_transmit.data.toList.drop 0 = dktX0_transmit_0 := by decide +kernel
theorem dksX0_transmit_1 : cX0_transmit.data.toList.drop 24 = dktX0_transmit_1 := dk_seg dksX0_transmit_0 24 rfl rfl
theorem dksX0_transmit_2 : cX0_transmit.data.toList.drop 48 = dktX0_transmit_2 := dk_seg dksX0_transmit_1 24 rfl rfl
theorem dksX0_transmit_3 : cX0_transmit.data.toList.drop 72 = dktX0_transmit_3 := dk_seg dksX0_transmit_2 24 rfl rfl
theorem dksX0_transmit_4 : cX0_transmit.data.toList.drop 94 = dktX0_transmit_4 := dk_seg dksX0_transmit_3 22 rfl rfl
theorem dksX0_transmit_5 : cX0_transmit.data.toList.drop 118 = dktX0_transmit_5 := dk_seg dksX0_transmit_4 24 rfl rfl
theorem dksX0_transmit_6 : cX0_transmit.data.toList.drop 141 = dktX0_transmit_6 := dk_seg dksX0_transmit_5 23 rfl rfl
theorem dX0_transmit_0 : decode cX0_transmit 0 = .ok (.aload_n 0, 1) := dk_42 (dk_at dksX0_transmit_0 0 rfl rfl)
theorem dX0_transmit_1 : decode cX0_transmit 1 = .ok (.invokevirtual 172, 3) := dk_182 0 172 (dk_at dksX0_transmit_0 1 rfl rfl)
theorem dX0_transmit_4 : decode cX0_transmit 4 = .ok (.ifCond .eq 13, 3) := dk_153 0 13 (dk_at dksX0_transmit_0 4 rfl rfl)
theorem dX0_transmit_7 : decode cX0_transmit 7 = .ok (.iload_n 1, 1) := dk_27 (dk_at dksX0_transmit_0 7 rfl rfl)
theorem dX0_transmit_8 : decode cX0_transmit 8 = .ok (.iconst 1, 1) := dk_4 (dk_at dksX0_transmit_0 8 rfl rfl)
theorem dX0_transmit_9 : decode cX0_transmit 9 = .ok (.bipush 50, 2) := dk_16 50 (dk_at dksX0_transmit_0 9 rfl rfl)
theorem dX0_transmit_11 : decode cX0_transmit 11 = .ok (.invokestatic 125, 3) := dk_184 0 125 (dk_at dksX0_transmit_0 11 rfl rfl)
theorem dX0_transmit_14 : decode cX0_transmit 14 = .ok (.ifCond .ne 5, 3) := dk_154 0 5 (dk_at dksX0_transmit_0 14 rfl rfl)
theorem dX0_transmit_17 : decode cX0_transmit 17 = .ok (.iconst (-1), 1) := dk_2 (dk_at dksX0_transmit_0 17 rfl rfl)
theorem dX0_transmit_18 : decode cX0_transmit 18 = .ok (.ireturn, 1) := dk_172 (dk_at dksX0_transmit_0 18 rfl rfl)
theorem dX0_transmit_19 : decode cX0_transmit 19 = .ok (.aload_n 0, 1) := dk_42 (dk_at dksX0_transmit_0 19 rfl rfl)
theorem dX0_transmit_20 : decode cX0_transmit 20 = .ok (.invokevirtual 193, 3) := dk_182 0 193 (dk_at dksX0_transmit_0 20 rfl rfl)
theorem dX0_transmit_23 : decode cX0_transmit 23 = .ok (.aload_n 0, 1) := dk_42 (dk_at dksX0_transmit_0 23 rfl rfl)
theorem dX0_transmit_24 : decode cX0_transmit 24 = .ok (.invokevirtual 250, 3) := dk_182 0 250 (dk_at dksX0_transmit_1 0 rfl rfl)
theorem dX0_transmit_27 : decode cX0_transmit 27 = .ok (.invokevirtual 254, 3) := dk_182 0 254 (dk_at dksX0_transmit_1 3 rfl rfl)
theorem dX0_transmit_30 : decode cX0_transmit 30 = .ok (.istore_n 2, 1) := dk_61 (dk_at dksX0_transmit_1 6 rfl rfl)
theorem dX0_transmit_31 : decode cX0_transmit 31 = .ok (.aload_n 0, 1) := dk_42 (dk_at dksX0_transmit_1 7 rfl rfl)
theorem dX0_transmit_32 : decode cX0_transmit 32 = .ok (.getfield 89, 3) := dk_180 0 89 (dk_at dksX0_transmit_1 8 rfl rfl)
theorem dX0_transmit_35 : decode cX0_transmit 35 = .ok (.invokevirtual 293, 3) := dk_182 1 37 (dk_at dksX0_transmit_1 11 rfl rfl)
theorem dX0_transmit_38 : decode cX0_transmit 38 = .ok (.istore_n 3, 1) := dk_62 (dk_at dksX0_transmit_1 14 rfl rfl)
theorem dX0_transmit_39 : decode cX0_transmit 39 = .ok (.iconst 0, 1) := dk_3 (dk_at dksX0_transmit_1 15 rfl rfl)
theorem dX0_transmit_40 : decode cX0_transmit 40 = .ok (.istore 4, 2) := dk_54 4 (dk_at dksX0_transmit_1 16 rfl rfl)
theorem dX0_transmit_42 : decode cX0_transmit 42 = .ok (.iconst 0, 1) := dk_3 (dk_at dksX0_transmit_1 18 rfl rfl)
theorem dX0_transmit_43 : decode cX0_transmit 43 = .ok (.istore 5, 2) := dk_54 5 (dk_at dksX0_transmit_1 19 rfl rfl)
theorem dX0_transmit_45 : decode cX0_transmit 45 = .ok (.iload 5, 2) := dk_21 5 (dk_at dksX0_transmit_1 21 rfl rfl)
theorem dX0_transmit_47 : decode cX0_transmit 47 = .ok (.iload_n 1, 1) := dk_27 (dk_at dksX0_transmit_1 23 rfl rfl)
theorem dX0_transmit_48 : decode cX0_transmit 48 = .ok (.if_icmp .ge 114, 3) := dk_162 0 114 (dk_at dksX0_transmit_2 0 rfl rfl)
theorem dX0_transmit_51 : decode cX0_transmit 51 = .ok (.aload_n 0, 1) := dk_42 (dk_at dksX0_transmit_2 3 rfl rfl)
theorem dX0_transmit_52 : decode cX0_transmit 52 = .ok (.getfield 114, 3) := dk_180 0 114 (dk_at dksX0_transmit_2 4 rfl rfl)
theorem dX0_transmit_55 : decode cX0_transmit 55 = .ok (.iload_n 3, 1) := dk_29 (dk_at dksX0_transmit_2 7 rfl rfl)
theorem dX0_transmit_56 : decode cX0_transmit 56 = .ok (.ifCond .eq 15, 3) := dk_153 0 15 (dk_at dksX0_transmit_2 8 rfl rfl)
theorem dX0_transmit_59 : decode cX0_transmit 59 = .ok (.aload_n 0, 1) := dk_42 (dk_at dksX0_transmit_2 11 rfl rfl)
theorem dX0_transmit_60 : decode cX0_transmit 60 = .ok (.getfield 114, 3) := dk_180 0 114 (dk_at dksX0_transmit_2 12 rfl rfl)
theorem dX0_transmit_63 : decode cX0_transmit 63 = .ok (.getfield 296, 3) := dk_180 1 40 (dk_at dksX0_transmit_2 15 rfl rfl)
theorem dX0_transmit_66 : decode cX0_transmit 66 = .ok (.iconst 1, 1) := dk_4 (dk_at dksX0_transmit_2 18 rfl rfl)
theorem dX0_transmit_67 : decode cX0_transmit 67 = .ok (.iadd, 1) := dk_96 (dk_at dksX0_transmit_2 19 rfl rfl)
theorem dX0_transmit_68 : decode cX0_transmit 68 = .ok (.goto 4, 3) := dk_167 0 4 (dk_at dksX0_transmit_2 20 rfl rfl)
theorem dX0_transmit_71 : decode cX0_transmit 71 = .ok (.iconst 0, 1) := dk_3 (dk_at dksX0_transmit_2 23 rfl rfl)
theorem dX0_transmit_72 : decode cX0_transmit 72 = .ok (.putfield 296, 3) := dk_181 1 40 (dk_at dksX0_transmit_3 0 rfl rfl)
theorem dX0_transmit_75 : decode cX0_transmit 75 = .ok (.aload_n 0, 1) := dk_42 (dk_at dksX0_transmit_3 3 rfl rfl)
theorem dX0_transmit_76 : decode cX0_transmit 76 = .ok (.getfield 114, 3) := dk_180 0 114 (dk_at dksX0_transmit_3 4 rfl rfl)
theorem dX0_transmit_79 : decode cX0_transmit 79 = .ok (.getfield 296, 3) := dk_180 1 40 (dk_at dksX0_transmit_3 7 rfl rfl)
theorem dX0_transmit_82 : decode cX0_transmit 82 = .ok (.iconst 3, 1) := dk_6 (dk_at dksX0_transmit_3 10 rfl rfl)
theorem dX0_transmit_83 : decode cX0_transmit 83 = .ok (.if_icmp .ne 7, 3) := dk_160 0 7 (dk_at dksX0_transmit_3 11 rfl rfl)
theorem dX0_transmit_86 : decode cX0_transmit 86 = .ok (.iconst 1, 1) := dk_4 (dk_at dksX0_transmit_3 14 rfl rfl)
theorem dX0_transmit_87 : decode cX0_transmit 87 = .ok (.goto 4, 3) := dk_167 0 4 (dk_at dksX0_transmit_3 15 rfl rfl)
theorem dX0_transmit_90 : decode cX0_transmit 90 = .ok (.iconst 0, 1) := dk_3 (dk_at dksX0_transmit_3 18 rfl rfl)
theorem dX0_transmit_91 : decode cX0_transmit 91 = .ok (.istore 6, 2) := dk_54 6 (dk_at dksX0_transmit_3 19 rfl rfl)
theorem dX0_transmit_93 : decode cX0_transmit 93 = .ok (.aload_n 0, 1) := dk_42 (dk_at dksX0_transmit_3 21 rfl rfl)
theorem dX0_transmit_94 : decode cX0_transmit 94 = .ok (.getfield 114, 3) := dk_180 0 114 (dk_at dksX0_transmit_4 0 rfl rfl)
theorem dX0_transmit_97 : decode cX0_transmit 97 = .ok (.iload 6, 2) := dk_21 6 (dk_at dksX0_transmit_4 3 rfl rfl)
theorem dX0_transmit_99 : decode cX0_transmit 99 = .ok (.ifCond .eq 15, 3) := dk_153 0 15 (dk_at dksX0_transmit_4 5 rfl rfl)
theorem dX0_transmit_102 : decode cX0_transmit 102 = .ok (.ldc_w 299, 3) := dk_19 1 43 (dk_at dksX0_transmit_4 8 rfl rfl)
theorem dX0_transmit_105 : decode cX0_transmit 105 = .ok (.iconst 4, 1) := dk_7 (dk_at dksX0_transmit_4 11 rfl rfl)
theorem dX0_transmit_106 : decode cX0_transmit 106 = .ok (.iload_n 2, 1) := dk_28 (dk_at dksX0_transmit_4 12 rfl rfl)
theorem dX0_transmit_107 : decode cX0_transmit 107 = .ok (.imul, 1) := dk_104 (dk_at dksX0_transmit_4 13 rfl rfl)
theorem dX0_transmit_108 : decode cX0_transmit 108 = .ok (.invokestatic 300, 3) := dk_184 1 44 (dk_at dksX0_transmit_4 14 rfl rfl)
theorem dX0_transmit_111 : decode cX0_transmit 111 = .ok (.goto 4, 3) := dk_167 0 4 (dk_at dksX0_transmit_4 17 rfl rfl)
theorem dX0_transmit_114 : decode cX0_transmit 114 = .ok (.iload_n 2, 1) := dk_28 (dk_at dksX0_transmit_4 20 rfl rfl)
theorem dX0_transmit_115 : decode cX0_transmit 115 = .ok (.invokevirtual 306, 3) := dk_182 1 50 (dk_at dksX0_transmit_4 21 rfl rfl)
theorem dX0_transmit_118 : decode cX0_transmit 118 = .ok (.aload_n 0, 1) := dk_42 (dk_at dksX0_transmit_5 0 rfl rfl)
theorem dX0_transmit_119 : decode cX0_transmit 119 = .ok (.getfield 114, 3) := dk_180 0 114 (dk_at dksX0_transmit_5 1 rfl rfl)
theorem dX0_transmit_122 : decode cX0_transmit 122 = .ok (.iload 6, 2) := dk_21 6 (dk_at dksX0_transmit_5 4 rfl rfl)
theorem dX0_transmit_124 : decode cX0_transmit 124 = .ok (.ifCond .eq 7, 3) := dk_153 0 7 (dk_at dksX0_transmit_5 6 rfl rfl)
theorem dX0_transmit_127 : decode cX0_transmit 127 = .ok (.iconst 0, 1) := dk_3 (dk_at dksX0_transmit_5 9 rfl rfl)
theorem dX0_transmit_128 : decode cX0_transmit 128 = .ok (.goto 10, 3) := dk_167 0 10 (dk_at dksX0_transmit_5 10 rfl rfl)
theorem dX0_transmit_131 : decode cX0_transmit 131 = .ok (.aload_n 0, 1) := dk_42 (dk_at dksX0_transmit_5 13 rfl rfl)
theorem dX0_transmit_132 : decode cX0_transmit 132 = .ok (.getfield 114, 3) := dk_180 0 114 (dk_at dksX0_transmit_5 14 rfl rfl)
theorem dX0_transmit_135 : decode cX0_transmit 135 = .ok (.getfield 296, 3) := dk_180 1 40 (dk_at dksX0_transmit_5 17 rfl rfl)
theorem dX0_transmit_138 : decode cX0_transmit 138 = .ok (.putfield 296, 3) := dk_181 1 40 (dk_at dksX0_transmit_5 20 rfl rfl)
theorem dX0_transmit_141 : decode cX0_transmit 141 = .ok (.iload 4, 2) := dk_21 4 (dk_at dksX0_transmit_6 0 rfl rfl)
theorem dX0_transmit_143 : decode cX0_transmit 143 = .ok (.iload 6, 2) := dk_21 6 (dk_at dksX0_transmit_6 2 rfl rfl)
theorem dX0_transmit_145 : decode cX0_transmit 145 = .ok (.ifCond .eq 7, 3) := dk_153 0 7 (dk_at dksX0_transmit_6 4 rfl rfl)
theorem dX0_transmit_148 : decode cX0_transmit 148 = .ok (.iconst 1, 1) := dk_4 (dk_at dksX0_transmit_6 7 rfl rfl)
theorem dX0_transmit_149 : decode cX0_transmit 149 = .ok (.goto 4, 3) := dk_167 0 4 (dk_at dksX0_transmit_6 8 rfl rfl)
theorem dX0_transmit_152 : decode cX0_transmit 152 = .ok (.iconst 0, 1) := dk_3 (dk_at dksX0_transmit_6 11 rfl rfl)
theorem dX0_transmit_153 : decode cX0_transmit 153 = .ok (.iadd, 1) := dk_96 (dk_at dksX0_transmit_6 12 rfl rfl)
theorem dX0_transmit_154 : decode cX0_transmit 154 = .ok (.istore 4, 2) := dk_54 4 (dk_at dksX0_transmit_6 13 rfl rfl)
theorem dX0_transmit_156 : decode cX0_transmit 156 = .ok (.iinc 5 1, 3) := dk_132 5 1 (dk_at dksX0_transmit_6 15 rfl rfl)
theorem dX0_transmit_159 : decode cX0_transmit 159 = .ok (.goto (-114), 3) := dk_167 255 142 (dk_at dksX0_transmit_6 18 rfl rfl)
theorem dX0_transmit_162 : decode cX0_transmit 162 = .ok (.iload 4, 2) := dk_21 4 (dk_at dksX0_transmit_6 21 rfl rfl)
theorem dX0_transmit_164 : decode cX0_transmit 164 = .ok (.ireturn, 1) := dk_172 (dk_at dksX0_transmit_6 23 rfl rfl)
abbrev cX0_readingCount : ByteArray := prog_1_method_46_code
def yX0_readingCount : MethodName := ⟨RX0, "readingCount", "()I"⟩
def dkwX0_readingCount_0 : List UInt8 := [42, 182, 0, 172, 153, 0, 13, 42, 180, 0, 114, 180, 1, 53, 167, 0, 4, 2, 172]
abbrev dktX0_readingCount_0 : List UInt8 := dkwX0_readingCount_0 ++ []
theorem dksX0_readingCount_0 : cX0_readingCount.data.toList.drop 0 = dktX0_readingCount_0 := by decide +kernel
theorem dX0_readingCount_0 : decode cX0_readingCount 0 = .ok (.aload_n 0, 1) := dk_42 (dk_at dksX0_readingCount_0 0 rfl rfl)
theorem dX0_readingCount_1 : decode cX0_readingCount 1 = .ok (.invokevirtual 172, 3) := dk_182 0 172 (dk_at dksX0_readingCount_0 1 rfl rfl)
theorem dX0_readingCount_4 : decode cX0_readingCount 4 = .ok (.ifCond .eq 13, 3) := dk_153 0 13 (dk_at dksX0_readingCount_0 4 rfl rfl)
theorem dX0_readingCount_7 : decode cX0_readingCount 7 = .ok (.aload_n 0, 1) := dk_42 (dk_at dksX0_readingCount_0 7 rfl rfl)
theorem dX0_readingCount_8 : decode cX0_readingCount 8 = .ok (.getfield 114, 3) := dk_180 0 114 (dk_at dksX0_readingCount_0 8 rfl rfl)
theorem dX0_readingCount_11 : decode cX0_readingCount 11 = .ok (.getfield 309, 3) := dk_180 1 53 (dk_at dksX0_readingCount_0 11 rfl rfl)
theorem dX0_readingCount_14 : decode cX0_readingCount 14 = .ok (.goto 4, 3) := dk_167 0 4 (dk_at dksX0_readingCount_0 14 rfl rfl)
theorem dX0_readingCount_17 : decode cX0_readingCount 17 = .ok (.iconst (-1), 1) := dk_2 (dk_at dksX0_readingCount_0 17 rfl rfl)
theorem dX0_readingCount_18 : decode cX0_readingCount 18 = .ok (.ireturn, 1) := dk_172 (dk_at dksX0_readingCount_0 18 rfl rfl)
abbrev cX0_reading : ByteArray := prog_1_method_47_code
def yX0_reading : MethodName := ⟨RX0, "reading", "(I)I"⟩
def dkwX0_reading_1 : List UInt8 := [42, 180, 0, 114, 180, 1, 56, 42, 180, 0, 114, 180, 1, 53, 4, 100, 27, 100, 46, 167, 0, 4, 2, 172]
abbrev dktX0_reading_1 : List UInt8 := dkwX0_reading_1 ++ []
def dkwX0_reading_0 : List UInt8 := [42, 182, 0, 172, 153, 0, 42, 27, 3, 42, 180, 0, 114, 180, 1, 53, 4, 100, 184, 0, 125, 153, 0, 25]
abbrev dktX0_reading_0 : List UInt8 := dkwX0_reading_0 ++ dktX0_reading_1
theorem dksX0_reading_0 : cX0_reading.data.toList.drop 0 = dktX0_reading_0 := by decide +kernel
theorem dksX0_reading_1 : cX0_reading.data.toList.drop 24 = dktX0_reading_1 := dk_seg dksX0_reading_0 24 rfl rfl
theorem dX0_reading_0 : decode cX0_reading 0 = .ok (.aload_n 0, 1) := dk_42 (dk_at dksX0_reading_0 0 rfl rfl)
theorem dX0_reading_1 : decode cX0_reading 1 = .ok (.invokevirtual 172, 3) := dk_182 0 172 (dk_at dksX0_reading_0 1 rfl rfl)
theorem dX0_reading_4 : decode cX0_reading 4 = .ok (.ifCond .eq 42, 3) := dk_153 0 42 (dk_at dksX0_reading_0 4 rfl rfl)
theorem dX0_reading_7 : decode cX0_reading 7 = .ok (.iload_n 1, 1) := dk_27 (dk_at dksX0_reading_0 7 rfl rfl)
theorem dX0_reading_8 : decode cX0_reading 8 = .ok (.iconst 0, 1) := dk_3 (dk_at dksX0_reading_0 8 rfl rfl)
theorem dX0_reading_9 : decode cX0_reading 9 = .ok (.aload_n 0, 1) := dk_42 (dk_at dksX0_reading_0 9 rfl rfl)
theorem dX0_reading_10 : decode cX0_reading 10 = .ok (.getfield 114, 3) := dk_180 0 114 (dk_at dksX0_reading_0 10 rfl rfl)
theorem dX0_reading_13 : decode cX0_reading 13 = .ok (.getfield 309, 3) := dk_180 1 53 (dk_at dksX0_reading_0 13 rfl rfl)
theorem dX0_reading_16 : decode cX0_reading 16 = .ok (.iconst 1, 1) := dk_4 (dk_at dksX0_reading_0 16 rfl rfl)
theorem dX0_reading_17 : decode cX0_reading 17 = .ok (.isub, 1) := dk_100 (dk_at dksX0_reading_0 17 rfl rfl)
theorem dX0_reading_18 : decode cX0_reading 18 = .ok (.invokestatic 125, 3) := dk_184 0 125 (dk_at dksX0_reading_0 18 rfl rfl)
theorem dX0_reading_21 : decode cX0_reading 21 = .ok (.ifCond .eq 25, 3) := dk_153 0 25 (dk_at dksX0_reading_0 21 rfl rfl)
theorem dX0_reading_24 : decode cX0_reading 24 = .ok (.aload_n 0, 1) := dk_42 (dk_at dksX0_reading_1 0 rfl rfl)
theorem dX0_reading_25 : decode cX0_reading 25 = .ok (.getfield 114, 3) := dk_180 0 114 (dk_at dksX0_reading_1 1 rfl rfl)
theorem dX0_reading_28 : decode cX0_reading 28 = .ok (.getfield 312, 3) := dk_180 1 56 (dk_at dksX0_reading_1 4 rfl rfl)
theorem dX0_reading_31 : decode cX0_reading 31 = .ok (.aload_n 0, 1) := dk_42 (dk_at dksX0_reading_1 7 rfl rfl)
theorem dX0_reading_32 : decode cX0_reading 32 = .ok (.getfield 114, 3) := dk_180 0 114 (dk_at dksX0_reading_1 8 rfl rfl)
theorem dX0_reading_35 : decode cX0_reading 35 = .ok (.getfield 309, 3) := dk_180 1 53 (dk_at dksX0_reading_1 11 rfl rfl)
theorem dX0_reading_38 : decode cX0_reading 38 = .ok (.iconst 1, 1) := dk_4 (dk_at dksX0_reading_1 14 rfl rfl)
theorem dX0_reading_39 : decode cX0_reading 39 = .ok (.isub, 1) := dk_100 (dk_at dksX0_reading_1 15 rfl rfl)
theorem dX0_reading_40 : decode cX0_reading 40 = .ok (.iload_n 1, 1) := dk_27 (dk_at dksX0_reading_1 16 rfl rfl)
theorem dX0_reading_41 : decode cX0_reading 41 = .ok (.isub, 1) := dk_100 (dk_at dksX0_reading_1 17 rfl rfl)
theorem dX0_reading_42 : decode cX0_reading 42 = .ok (.iaload, 1) := dk_46 (dk_at dksX0_reading_1 18 rfl rfl)
theorem dX0_reading_43 : decode cX0_reading 43 = .ok (.goto 4, 3) := dk_167 0 4 (dk_at dksX0_reading_1 19 rfl rfl)
theorem dX0_reading_46 : decode cX0_reading 46 = .ok (.iconst (-1), 1) := dk_2 (dk_at dksX0_reading_1 22 rfl rfl)
theorem dX0_reading_47 : decode cX0_reading 47 = .ok (.ireturn, 1) := dk_172 (dk_at dksX0_reading_1 23 rfl rfl)
abbrev cX0_heat : ByteArray := prog_1_method_48_code
def yX0_heat : MethodName := ⟨RX0, "heat", "()I"⟩
def dkwX0_heat_0 : List UInt8 := [42, 182, 0, 172, 153, 0, 13, 42, 180, 0, 114, 180, 1, 40, 167, 0, 4, 2, 172]
abbrev dktX0_heat_0 : List UInt8 := dkwX0_heat_0 ++ []
theorem dksX0_heat_0 : cX0_heat.data.toList.drop 0 = dktX0_heat_0 := by decide +kernel
theorem dX0_heat_0 : decode cX0_heat 0 = .ok (.aload_n 0, 1) := dk_42 (dk_at dksX0_heat_0 0 rfl rfl)
theorem dX0_heat_1 : decode cX0_heat 1 = .ok (.invokevirtual 172, 3) := dk_182 0 172 (dk_at dksX0_heat_0 1 rfl rfl)
theorem dX0_heat_4 : decode cX0_heat 4 = .ok (.ifCond .eq 13, 3) := dk_153 0 13 (dk_at dksX0_heat_0 4 rfl rfl)
theorem dX0_heat_7 : decode cX0_heat 7 = .ok (.aload_n 0, 1) := dk_42 (dk_at dksX0_heat_0 7 rfl rfl)
theorem dX0_heat_8 : decode cX0_heat 8 = .ok (.getfield 114, 3) := dk_180 0 114 (dk_at dksX0_heat_0 8 rfl rfl)
theorem dX0_heat_11 : decode cX0_heat 11 = .ok (.getfield 296, 3) := dk_180 1 40 (dk_at dksX0_heat_0 11 rfl rfl)
theorem dX0_heat_14 : decode cX0_heat 14 = .ok (.goto 4, 3) := dk_167 0 4 (dk_at dksX0_heat_0 14 rfl rfl)
theorem dX0_heat_17 : decode cX0_heat 17 = .ok (.iconst (-1), 1) := dk_2 (dk_at dksX0_heat_0 17 rfl rfl)
theorem dX0_heat_18 : decode cX0_heat 18 = .ok (.ireturn, 1) := dk_172 (dk_at dksX0_heat_0 18 rfl rfl)
abbrev cX0_arcsNoticed : ByteArray := prog_1_method_49_code
def yX0_arcsNoticed : MethodName := ⟨RX0, "arcsNoticed", "(I)I"⟩
def dkwX0_arcsNoticed_3 : List UInt8 := [104, 161, 0, 7, 4, 167, 0, 4, 3, 96, 61, 132, 3, 1, 167, 255, 194, 28, 172]
abbrev dktX0_arcsNoticed_3 : List UInt8 := dkwX0_arcsNoticed_3 ++ []
def dkwX0_arcsNoticed_2 : List UInt8 := [16, 10, 42, 180, 0, 114, 180, 1, 56, 29, 46, 104, 27, 42, 180, 0, 114, 180, 1, 56, 29, 4, 100, 46]
abbrev dktX0_arcsNoticed_2 : List UInt8 := dkwX0_arcsNoticed_2 ++ dktX0_arcsNoticed_3
def dkwX0_arcsNoticed_1 : List UInt8 := [29, 42, 180, 0, 114, 180, 1, 53, 162, 0, 57, 28, 42, 180, 0, 114, 180, 1, 59, 29, 51, 154, 0, 35]
abbrev dktX0_arcsNoticed_1 : List UInt8 := dkwX0_arcsNoticed_1 ++ dktX0_arcsNoticed_2
def dkwX0_arcsNoticed_0 : List UInt8 := [42, 182, 0, 172, 153, 0, 14, 27, 16, 11, 16, 100, 184, 0, 125, 154, 0, 5, 2, 172, 3, 61, 4, 62]
abbrev dktX0_arcsNoticed_0 : List UInt8 := dkwX0_arcsNoticed_0 ++ dktX0_arcsNoticed_1
theorem dksX0_arcsNoticed_0 : cX0_arcsNoticed.data.toList.drop 0 = dktX0_arcsNoticed_0 := by decide +kernel
theorem dksX0_arcsNoticed_1 : cX0_arcsNoticed.data.toList.drop 24 = dktX0_arcsNoticed_1 := dk_seg dksX0_arcsNoticed_0 24 rfl rfl
theorem dksX0_arcsNoticed_2 : cX0_arcsNoticed.data.toList.drop 48 = dktX0_arcsNoticed_2 := dk_seg dksX0_arcsNoticed_1 24 rfl rfl
theorem dksX0_arcsNoticed_3 : cX0_arcsNoticed.data.toList.drop 72 = dktX0_arcsNoticed_3 := dk_seg dksX0_arcsNoticed_2 24 rfl rfl
theorem dX0_arcsNoticed_0 : decode cX0_arcsNoticed 0 = .ok (.aload_n 0, 1) := dk_42 (dk_at dksX0_arcsNoticed_0 0 rfl rfl)
theorem dX0_arcsNoticed_1 : decode cX0_arcsNoticed 1 = .ok (.invokevirtual 172, 3) := dk_182 0 172 (dk_at dksX0_arcsNoticed_0 1 rfl rfl)
theorem dX0_arcsNoticed_4 : decode cX0_arcsNoticed 4 = .ok (.ifCond .eq 14, 3) := dk_153 0 14 (dk_at dksX0_arcsNoticed_0 4 rfl rfl)
theorem dX0_arcsNoticed_7 : decode cX0_arcsNoticed 7 = .ok (.iload_n 1, 1) := dk_27 (dk_at dksX0_arcsNoticed_0 7 rfl rfl)
theorem dX0_arcsNoticed_8 : decode cX0_arcsNoticed 8 = .ok (.bipush 11, 2) := dk_16 11 (dk_at dksX0_arcsNoticed_0 8 rfl rfl)
theorem dX0_arcsNoticed_10 : decode cX0_arcsNoticed 10 = .ok (.bipush 100, 2) := dk_16 100 (dk_at dksX0_arcsNoticed_0 10 rfl rfl)
theorem dX0_arcsNoticed_12 : decode cX0_arcsNoticed 12 = .ok (.invokestatic 125, 3) := dk_184 0 125 (dk_at dksX0_arcsNoticed_0 12 rfl rfl)
theorem dX0_arcsNoticed_15 : decode cX0_arcsNoticed 15 = .ok (.ifCond .ne 5, 3) := dk_154 0 5 (dk_at dksX0_arcsNoticed_0 15 rfl rfl)
theorem dX0_arcsNoticed_18 : decode cX0_arcsNoticed 18 = .ok (.iconst (-1), 1) := dk_2 (dk_at dksX0_arcsNoticed_0 18 rfl rfl)
theorem dX0_arcsNoticed_19 : decode cX0_arcsNoticed 19 = .ok (.ireturn, 1) := dk_172 (dk_at dksX0_arcsNoticed_0 19 rfl rfl)
theorem dX0_arcsNoticed_20 : decode cX0_arcsNoticed 20 = .ok (.iconst 0, 1) := dk_3 (dk_at dksX0_arcsNoticed_0 20 rfl rfl)
theorem dX0_arcsNoticed_21 : decode cX0_arcsNoticed 21 = .ok (.istore_n 2, 1) := dk_61 (dk_at dksX0_arcsNoticed_0 21 rfl rfl)
theorem dX0_arcsNoticed_22 : decode cX0_arcsNoticed 22 = .ok (.iconst 1, 1) := dk_4 (dk_at dksX0_arcsNoticed_0 22 rfl rfl)
theorem dX0_arcsNoticed_23 : decode cX0_arcsNoticed 23 = .ok (.istore_n 3, 1) := dk_62 (dk_at dksX0_arcsNoticed_0 23 rfl rfl)
theorem dX0_arcsNoticed_24 : decode cX0_arcsNoticed 24 = .ok (.iload_n 3, 1) := dk_29 (dk_at dksX0_arcsNoticed_1 0 rfl rfl)
theorem dX0_arcsNoticed_25 : decode cX0_arcsNoticed 25 = .ok (.aload_n 0, 1) := dk_42 (dk_at dksX0_arcsNoticed_1 1 rfl rfl)
theorem dX0_arcsNoticed_26 : decode cX0_arcsNoticed 26 = .ok (.getfield 114, 3) := dk_180 0 114 (dk_at dksX0_arcsNoticed_1 2 rfl rfl)
theorem dX0_arcsNoticed_29 : decode cX0_arcsNoticed 29 = .ok (.getfield 309, 3) := dk_180 1 53 (dk_at dksX0_arcsNoticed_1 5 rfl rfl)
theorem dX0_arcsNoticed_32 : decode cX0_arcsNoticed 32 = .ok (.if_icmp .ge 57, 3) := dk_162 0 57 (dk_at dksX0_arcsNoticed_1 8 rfl rfl)
theorem dX0_arcsNoticed_35 : decode cX0_arcsNoticed 35 = .ok (.iload_n 2, 1) := dk_28 (dk_at dksX0_arcsNoticed_1 11 rfl rfl)
theorem dX0_arcsNoticed_36 : decode cX0_arcsNoticed 36 = .ok (.aload_n 0, 1) := dk_42 (dk_at dksX0_arcsNoticed_1 12 rfl rfl)
theorem dX0_arcsNoticed_37 : decode cX0_arcsNoticed 37 = .ok (.getfield 114, 3) := dk_180 0 114 (dk_at dksX0_arcsNoticed_1 13 rfl rfl)
theorem dX0_arcsNoticed_40 : decode cX0_arcsNoticed 40 = .ok (.getfield 315, 3) := dk_180 1 59 (dk_at dksX0_arcsNoticed_1 16 rfl rfl)
theorem dX0_arcsNoticed_43 : decode cX0_arcsNoticed 43 = .ok (.iload_n 3, 1) := dk_29 (dk_at dksX0_arcsNoticed_1 19 rfl rfl)
theorem dX0_arcsNoticed_44 : decode cX0_arcsNoticed 44 = .ok (.baload, 1) := dk_51 (dk_at dksX0_arcsNoticed_1 20 rfl rfl)
theorem dX0_arcsNoticed_45 : decode cX0_arcsNoticed 45 = .ok (.ifCond .ne 35, 3) := dk_154 0 35 (dk_at dksX0_arcsNoticed_1 21 rfl rfl)
theorem dX0_arcsNoticed_48 : decode cX0_arcsNoticed 48 = .ok (.bipush 10, 2) := dk_16 10 (dk_at dksX0_arcsNoticed_2 0 rfl rfl)
theorem dX0_arcsNoticed_50 : decode cX0_arcsNoticed 50 = .ok (.aload_n 0, 1) := dk_42 (dk_at dksX0_arcsNoticed_2 2 rfl rfl)
theorem dX0_arcsNoticed_51 : decode cX0_arcsNoticed 51 = .ok (.getfield 114, 3) := dk_180 0 114 (dk_at dksX0_arcsNoticed_2 3 rfl rfl)
theorem dX0_arcsNoticed_54 : decode cX0_arcsNoticed 54 = .ok (.getfield 312, 3) := dk_180 1 56 (dk_at dksX0_arcsNoticed_2 6 rfl rfl)
theorem dX0_arcsNoticed_57 : decode cX0_arcsNoticed 57 = .ok (.iload_n 3, 1) := dk_29 (dk_at dksX0_arcsNoticed_2 9 rfl rfl)
theorem dX0_arcsNoticed_58 : decode cX0_arcsNoticed 58 = .ok (.iaload, 1) := dk_46 (dk_at dksX0_arcsNoticed_2 10 rfl rfl)
theorem dX0_arcsNoticed_59 : decode cX0_arcsNoticed 59 = .ok (.imul, 1) := dk_104 (dk_at dksX0_arcsNoticed_2 11 rfl rfl)
theorem dX0_arcsNoticed_60 : decode cX0_arcsNoticed 60 = .ok (.iload_n 1, 1) := dk_27 (dk_at dksX0_arcsNoticed_2 12 rfl rfl)
theorem dX0_arcsNoticed_61 : decode cX0_arcsNoticed 61 = .ok (.aload_n 0, 1) := dk_42 (dk_at dksX0_arcsNoticed_2 13 rfl rfl)
theorem dX0_arcsNoticed_62 : decode cX0_arcsNoticed 62 = .ok (.getfield 114, 3) := dk_180 0 114 (dk_at dksX0_arcsNoticed_2 14 rfl rfl)
theorem dX0_arcsNoticed_65 : decode cX0_arcsNoticed 65 = .ok (.getfield 312, 3) := dk_180 1 56 (dk_at dksX0_arcsNoticed_2 17 rfl rfl)
theorem dX0_arcsNoticed_68 : decode cX0_arcsNoticed 68 = .ok (.iload_n 3, 1) := dk_29 (dk_at dksX0_arcsNoticed_2 20 rfl rfl)
theorem dX0_arcsNoticed_69 : decode cX0_arcsNoticed 69 = .ok (.iconst 1, 1) := dk_4 (dk_at dksX0_arcsNoticed_2 21 rfl rfl)
theorem dX0_arcsNoticed_70 : decode cX0_arcsNoticed 70 = .ok (.isub, 1) := dk_100 (dk_at dksX0_arcsNoticed_2 22 rfl rfl)
theorem dX0_arcsNoticed_71 : decode cX0_arcsNoticed 71 = .ok (.iaload, 1) := dk_46 (dk_at dksX0_arcsNoticed_2 23 rfl rfl)
theorem dX0_arcsNoticed_72 : decode cX0_arcsNoticed 72 = .ok (.imul, 1) := dk_104 (dk_at dksX0_arcsNoticed_3 0 rfl rfl)
theorem dX0_arcsNoticed_73 : decode cX0_arcsNoticed 73 = .ok (.if_icmp .lt 7, 3) := dk_161 0 7 (dk_at dksX0_arcsNoticed_3 1 rfl rfl)
theorem dX0_arcsNoticed_76 : decode cX0_arcsNoticed 76 = .ok (.iconst 1, 1) := dk_4 (dk_at dksX0_arcsNoticed_3 4 rfl rfl)
theorem dX0_arcsNoticed_77 : decode cX0_arcsNoticed 77 = .ok (.goto 4, 3) := dk_167 0 4 (dk_at dksX0_arcsNoticed_3 5 rfl rfl)
theorem dX0_arcsNoticed_80 : decode cX0_arcsNoticed 80 = .ok (.iconst 0, 1) := dk_3 (dk_at dksX0_arcsNoticed_3 8 rfl rfl)
theorem dX0_arcsNoticed_81 : decode cX0_arcsNoticed 81 = .ok (.iadd, 1) := dk_96 (dk_at dksX0_arcsNoticed_3 9 rfl rfl)
theorem dX0_arcsNoticed_82 : decode cX0_arcsNoticed 82 = .ok (.istore_n 2, 1) := dk_61 (dk_at dksX0_arcsNoticed_3 10 rfl rfl)
theorem dX0_arcsNoticed_83 : decode cX0_arcsNoticed 83 = .ok (.iinc 3 1, 3) := dk_132 3 1 (dk_at dksX0_arcsNoticed_3 11 rfl rfl)
theorem dX0_arcsNoticed_86 : decode cX0_arcsNoticed 86 = .ok (.goto (-62), 3) := dk_167 255 194 (dk_at dksX0_arcsNoticed_3 14 rfl rfl)
theorem dX0_arcsNoticed_89 : decode cX0_arcsNoticed 89 = .ok (.iload_n 2, 1) := dk_28 (dk_at dksX0_arcsNoticed_3 17 rfl rfl)
theorem dX0_arcsNoticed_90 : decode cX0_arcsNoticed 90 = .ok (.ireturn, 1) := dk_172 (dk_at dksX0_arcsNoticed_3 18 rfl rfl)
abbrev cX0_tune : ByteArray := prog_1_method_51_code
def yX0_tune : MethodName := ⟨RX0, "tune", "()I"⟩
def dkwX0_tune_0 : List UInt8 := [42, 182, 0, 172, 153, 0, 17, 42, 42, 180, 0, 114, 180, 0, 202, 182, 1, 82, 167, 0, 4, 2, 172]
abbrev dktX0_tune_0 : List UInt8 := dkwX0_tune_0 ++ []
theorem dksX0_tune_0 : cX0_tune.data.toList.drop 0 = dktX0_tune_0 := by decide +kernel
theorem dX0_tune_0 : decode cX0_tune 0 = .ok (.aload_n 0, 1) := dk_42 (dk_at dksX0_tune_0 0 rfl rfl)
theorem dX0_tune_1 : decode cX0_tune 1 = .ok (.invokevirtual 172, 3) := dk_182 0 172 (dk_at dksX0_tune_0 1 rfl rfl)
theorem dX0_tune_4 : decode cX0_tune 4 = .ok (.ifCond .eq 17, 3) := dk_153 0 17 (dk_at dksX0_tune_0 4 rfl rfl)
theorem dX0_tune_7 : decode cX0_tune 7 = .ok (.aload_n 0, 1) := dk_42 (dk_at dksX0_tune_0 7 rfl rfl)
theorem dX0_tune_8 : decode cX0_tune 8 = .ok (.aload_n 0, 1) := dk_42 (dk_at dksX0_tune_0 8 rfl rfl)
theorem dX0_tune_9 : decode cX0_tune 9 = .ok (.getfield 114, 3) := dk_180 0 114 (dk_at dksX0_tune_0 9 rfl rfl)
theorem dX0_tune_12 : decode cX0_tune 12 = .ok (.getfield 202, 3) := dk_180 0 202 (dk_at dksX0_tune_0 12 rfl rfl)
theorem dX0_tune_15 : decode cX0_tune 15 = .ok (.invokevirtual 338, 3) := dk_182 1 82 (dk_at dksX0_tune_0 15 rfl rfl)
theorem dX0_tune_18 : decode cX0_tune 18 = .ok (.goto 4, 3) := dk_167 0 4 (dk_at dksX0_tune_0 18 rfl rfl)
theorem dX0_tune_21 : decode cX0_tune 21 = .ok (.iconst (-1), 1) := dk_2 (dk_at dksX0_tune_0 21 rfl rfl)
theorem dX0_tune_22 : decode cX0_tune 22 = .ok (.ireturn, 1) := dk_172 (dk_at dksX0_tune_0 22 rfl rfl)
abbrev cX0_searchFrom : ByteArray := prog_1_method_50_code
def yX0_searchFrom : MethodName := ⟨RX0, "searchFrom", "(I)I"⟩
def dkwX0_searchFrom_2 : List UInt8 := [182, 0, 228, 44, 180, 1, 80, 172]
abbrev dktX0_searchFrom_2 : List UInt8 := dkwX0_searchFrom_2 ++ []
def dkwX0_searchFrom_1 : List UInt8 := [167, 0, 12, 78, 42, 45, 181, 0, 162, 16, 253, 172, 42, 1, 181, 0, 162, 42, 44, 180, 1, 76]
abbrev dktX0_searchFrom_1 : List UInt8 := dkwX0_searchFrom_1 ++ dktX0_searchFrom_2
def dkwX0_searchFrom_0 : List UInt8 := [187, 1, 63, 89, 42, 27, 183, 1, 65, 77, 42, 44, 180, 1, 68, 181, 0, 166, 44, 182, 1, 71]
abbrev dktX0_searchFrom_0 : List UInt8 := dkwX0_searchFrom_0 ++ dktX0_searchFrom_1
theorem dksX0_searchFrom_0 : cX0_searchFrom.data.toList.drop 0 = dktX0_searchFrom_0 := by decide +kernel
theorem dksX0_searchFrom_1 : cX0_searchFrom.data.toList.drop 22 = dktX0_searchFrom_1 := dk_seg dksX0_searchFrom_0 22 rfl rfl
theorem dksX0_searchFrom_2 : cX0_searchFrom.data.toList.drop 44 = dktX0_searchFrom_2 := dk_seg dksX0_searchFrom_1 22 rfl rfl
theorem dX0_searchFrom_0 : decode cX0_searchFrom 0 = .ok (.new 319, 3) := dk_187 1 63 (dk_at dksX0_searchFrom_0 0 rfl rfl)
theorem dX0_searchFrom_3 : decode cX0_searchFrom 3 = .ok (.dup, 1) := dk_89 (dk_at dksX0_searchFrom_0 3 rfl rfl)
theorem dX0_searchFrom_4 : decode cX0_searchFrom 4 = .ok (.aload_n 0, 1) := dk_42 (dk_at dksX0_searchFrom_0 4 rfl rfl)
theorem dX0_searchFrom_5 : decode cX0_searchFrom 5 = .ok (.iload_n 1, 1) := dk_27 (dk_at dksX0_searchFrom_0 5 rfl rfl)
theorem dX0_searchFrom_6 : decode cX0_searchFrom 6 = .ok (.invokespecial 321, 3) := dk_183 1 65 (dk_at dksX0_searchFrom_0 6 rfl rfl)
theorem dX0_searchFrom_9 : decode cX0_searchFrom 9 = .ok (.astore_n 2, 1) := dk_77 (dk_at dksX0_searchFrom_0 9 rfl rfl)
theorem dX0_searchFrom_10 : decode cX0_searchFrom 10 = .ok (.aload_n 0, 1) := dk_42 (dk_at dksX0_searchFrom_0 10 rfl rfl)
theorem dX0_searchFrom_11 : decode cX0_searchFrom 11 = .ok (.aload_n 2, 1) := dk_44 (dk_at dksX0_searchFrom_0 11 rfl rfl)
theorem dX0_searchFrom_12 : decode cX0_searchFrom 12 = .ok (.getfield 324, 3) := dk_180 1 68 (dk_at dksX0_searchFrom_0 12 rfl rfl)
theorem dX0_searchFrom_15 : decode cX0_searchFrom 15 = .ok (.putfield 166, 3) := dk_181 0 166 (dk_at dksX0_searchFrom_0 15 rfl rfl)
theorem dX0_searchFrom_18 : decode cX0_searchFrom 18 = .ok (.aload_n 2, 1) := dk_44 (dk_at dksX0_searchFrom_0 18 rfl rfl)
theorem dX0_searchFrom_19 : decode cX0_searchFrom 19 = .ok (.invokevirtual 327, 3) := dk_182 1 71 (dk_at dksX0_searchFrom_0 19 rfl rfl)
theorem dX0_searchFrom_22 : decode cX0_searchFrom 22 = .ok (.goto 12, 3) := dk_167 0 12 (dk_at dksX0_searchFrom_1 0 rfl rfl)
theorem dX0_searchFrom_25 : decode cX0_searchFrom 25 = .ok (.astore_n 3, 1) := dk_78 (dk_at dksX0_searchFrom_1 3 rfl rfl)
theorem dX0_searchFrom_26 : decode cX0_searchFrom 26 = .ok (.aload_n 0, 1) := dk_42 (dk_at dksX0_searchFrom_1 4 rfl rfl)
theorem dX0_searchFrom_27 : decode cX0_searchFrom 27 = .ok (.aload_n 3, 1) := dk_45 (dk_at dksX0_searchFrom_1 5 rfl rfl)
theorem dX0_searchFrom_28 : decode cX0_searchFrom 28 = .ok (.putfield 162, 3) := dk_181 0 162 (dk_at dksX0_searchFrom_1 6 rfl rfl)
theorem dX0_searchFrom_31 : decode cX0_searchFrom 31 = .ok (.bipush (-3), 2) := dk_16 253 (dk_at dksX0_searchFrom_1 9 rfl rfl)
theorem dX0_searchFrom_33 : decode cX0_searchFrom 33 = .ok (.ireturn, 1) := dk_172 (dk_at dksX0_searchFrom_1 11 rfl rfl)
theorem dX0_searchFrom_34 : decode cX0_searchFrom 34 = .ok (.aload_n 0, 1) := dk_42 (dk_at dksX0_searchFrom_1 12 rfl rfl)
theorem dX0_searchFrom_35 : decode cX0_searchFrom 35 = .ok (.aconst_null, 1) := dk_1 (dk_at dksX0_searchFrom_1 13 rfl rfl)
theorem dX0_searchFrom_36 : decode cX0_searchFrom 36 = .ok (.putfield 162, 3) := dk_181 0 162 (dk_at dksX0_searchFrom_1 14 rfl rfl)
theorem dX0_searchFrom_39 : decode cX0_searchFrom 39 = .ok (.aload_n 0, 1) := dk_42 (dk_at dksX0_searchFrom_1 17 rfl rfl)
theorem dX0_searchFrom_40 : decode cX0_searchFrom 40 = .ok (.aload_n 2, 1) := dk_44 (dk_at dksX0_searchFrom_1 18 rfl rfl)
theorem dX0_searchFrom_41 : decode cX0_searchFrom 41 = .ok (.getfield 332, 3) := dk_180 1 76 (dk_at dksX0_searchFrom_1 19 rfl rfl)
theorem dX0_searchFrom_44 : decode cX0_searchFrom 44 = .ok (.invokevirtual 228, 3) := dk_182 0 228 (dk_at dksX0_searchFrom_2 0 rfl rfl)
theorem dX0_searchFrom_47 : decode cX0_searchFrom 47 = .ok (.aload_n 2, 1) := dk_44 (dk_at dksX0_searchFrom_2 3 rfl rfl)
theorem dX0_searchFrom_48 : decode cX0_searchFrom 48 = .ok (.getfield 336, 3) := dk_180 1 80 (dk_at dksX0_searchFrom_2 4 rfl rfl)
theorem dX0_searchFrom_51 : decode cX0_searchFrom 51 = .ok (.ireturn, 1) := dk_172 (dk_at dksX0_searchFrom_2 7 rfl rfl)
abbrev cX0_tuneCold : ByteArray := prog_1_method_52_code
def yX0_tuneCold : MethodName := ⟨RX0, "tuneCold", "()I"⟩
def dkwX0_tuneCold_0 : List UInt8 := [42, 182, 0, 172, 153, 0, 11, 42, 3, 182, 1, 82, 167, 0, 4, 2, 172]
abbrev dktX0_tuneCold_0 : List UInt8 := dkwX0_tuneCold_0 ++ []
theorem dksX0_tuneCold_0 : cX0_tuneCold.data.toList.drop 0 = dktX0_tuneCold_0 := by decide +kernel
theorem dX0_tuneCold_0 : decode cX0_tuneCold 0 = .ok (.aload_n 0, 1) := dk_42 (dk_at dksX0_tuneCold_0 0 rfl rfl)
theorem dX0_tuneCold_1 : decode cX0_tuneCold 1 = .ok (.invokevirtual 172, 3) := dk_182 0 172 (dk_at dksX0_tuneCold_0 1 rfl rfl)
theorem dX0_tuneCold_4 : decode cX0_tuneCold 4 = .ok (.ifCond .eq 11, 3) := dk_153 0 11 (dk_at dksX0_tuneCold_0 4 rfl rfl)
theorem dX0_tuneCold_7 : decode cX0_tuneCold 7 = .ok (.aload_n 0, 1) := dk_42 (dk_at dksX0_tuneCold_0 7 rfl rfl)
theorem dX0_tuneCold_8 : decode cX0_tuneCold 8 = .ok (.iconst 0, 1) := dk_3 (dk_at dksX0_tuneCold_0 8 rfl rfl)
theorem dX0_tuneCold_9 : decode cX0_tuneCold 9 = .ok (.invokevirtual 338, 3) := dk_182 1 82 (dk_at dksX0_tuneCold_0 9 rfl rfl)
theorem dX0_tuneCold_12 : decode cX0_tuneCold 12 = .ok (.goto 4, 3) := dk_167 0 4 (dk_at dksX0_tuneCold_0 12 rfl rfl)
theorem dX0_tuneCold_15 : decode cX0_tuneCold 15 = .ok (.iconst (-1), 1) := dk_2 (dk_at dksX0_tuneCold_0 15 rfl rfl)
theorem dX0_tuneCold_16 : decode cX0_tuneCold 16 = .ok (.ireturn, 1) := dk_172 (dk_at dksX0_tuneCold_0 16 rfl rfl)
abbrev cX0_tuneFromMemory : ByteArray := prog_1_method_53_code
def yX0_tuneFromMemory : MethodName := ⟨RX0, "tuneFromMemory", "()I"⟩
def dkwX0_tuneFromMemory_3 : List UInt8 := [172]
abbrev dktX0_tuneFromMemory_3 : List UInt8 := dkwX0_tuneFromMemory_3 ++ []
def dkwX0_tuneFromMemory_2 : List UInt8 := [167, 0, 4, 3, 182, 1, 82, 172, 76, 42, 187, 1, 74, 89, 3, 43, 183, 1, 103, 181, 0, 162, 16, 254]
abbrev dktX0_tuneFromMemory_2 : List UInt8 := dkwX0_tuneFromMemory_2 ++ dktX0_tuneFromMemory_3
def dkwX0_tuneFromMemory_1 : List UInt8 := [192, 1, 98, 180, 1, 100, 60, 42, 42, 27, 182, 1, 4, 42, 3, 182, 1, 4, 163, 0, 7, 27]
abbrev dktX0_tuneFromMemory_1 : List UInt8 := dkwX0_tuneFromMemory_1 ++ dktX0_tuneFromMemory_2
def dkwX0_tuneFromMemory_0 : List UInt8 := [42, 182, 0, 172, 154, 0, 5, 2, 172, 42, 180, 0, 114, 180, 1, 85, 42, 182, 1, 89, 182, 1, 92]
abbrev dktX0_tuneFromMemory_0 : List UInt8 := dkwX0_tuneFromMemory_0 ++ dktX0_tuneFromMemory_1
theorem dksX0_tuneFromMemory_0 : cX0_tuneFromMemory.data.toList.drop 0 = dktX0_tuneFromMemory_0 := by decide +kernel
theorem dksX0_tuneFromMemory_1 : cX0_tuneFromMemory.data.toList.drop 23 = dktX0_tuneFromMemory_1 := dk_seg dksX0_tuneFromMemory_0 23 rfl rfl
theorem dksX0_tuneFromMemory_2 : cX0_tuneFromMemory.data.toList.drop 45 = dktX0_tuneFromMemory_2 := dk_seg dksX0_tuneFromMemory_1 22 rfl rfl
theorem dksX0_tuneFromMemory_3 : cX0_tuneFromMemory.data.toList.drop 69 = dktX0_tuneFromMemory_3 := dk_seg dksX0_tuneFromMemory_2 24 rfl rfl
theorem dX0_tuneFromMemory_0 : decode cX0_tuneFromMemory 0 = .ok (.aload_n 0, 1) := dk_42 (dk_at dksX0_tuneFromMemory_0 0 rfl rfl)
theorem dX0_tuneFromMemory_1 : decode cX0_tuneFromMemory 1 = .ok (.invokevirtual 172, 3) := dk_182 0 172 (dk_at dksX0_tuneFromMemory_0 1 rfl rfl)
theorem dX0_tuneFromMemory_4 : decode cX0_tuneFromMemory 4 = .ok (.ifCond .ne 5, 3) := dk_154 0 5 (dk_at dksX0_tuneFromMemory_0 4 rfl rfl)
theorem dX0_tuneFromMemory_7 : decode cX0_tuneFromMemory 7 = .ok (.iconst (-1), 1) := dk_2 (dk_at dksX0_tuneFromMemory_0 7 rfl rfl)
theorem dX0_tuneFromMemory_8 : decode cX0_tuneFromMemory 8 = .ok (.ireturn, 1) := dk_172 (dk_at dksX0_tuneFromMemory_0 8 rfl rfl)
theorem dX0_tuneFromMemory_9 : decode cX0_tuneFromMemory 9 = .ok (.aload_n 0, 1) := dk_42 (dk_at dksX0_tuneFromMemory_0 9 rfl rfl)
theorem dX0_tuneFromMemory_10 : decode cX0_tuneFromMemory 10 = .ok (.getfield 114, 3) := dk_180 0 114 (dk_at dksX0_tuneFromMemory_0 10 rfl rfl)
theorem dX0_tuneFromMemory_13 : decode cX0_tuneFromMemory 13 = .ok (.getfield 341, 3) := dk_180 1 85 (dk_at dksX0_tuneFromMemory_0 13 rfl rfl)
theorem dX0_tuneFromMemory_16 : decode cX0_tuneFromMemory 16 = .ok (.aload_n 0, 1) := dk_42 (dk_at dksX0_tuneFromMemory_0 16 rfl rfl)
theorem dX0_tuneFromMemory_17 : decode cX0_tuneFromMemory 17 = .ok (.invokevirtual 345, 3) := dk_182 1 89 (dk_at dksX0_tuneFromMemory_0 17 rfl rfl)
theorem dX0_tuneFromMemory_20 : decode cX0_tuneFromMemory 20 = .ok (.invokevirtual 348, 3) := dk_182 1 92 (dk_at dksX0_tuneFromMemory_0 20 rfl rfl)
theorem dX0_tuneFromMemory_23 : decode cX0_tuneFromMemory 23 = .ok (.checkcast 354, 3) := dk_192 1 98 (dk_at dksX0_tuneFromMemory_1 0 rfl rfl)
theorem dX0_tuneFromMemory_26 : decode cX0_tuneFromMemory 26 = .ok (.getfield 356, 3) := dk_180 1 100 (dk_at dksX0_tuneFromMemory_1 3 rfl rfl)
theorem dX0_tuneFromMemory_29 : decode cX0_tuneFromMemory 29 = .ok (.istore_n 1, 1) := dk_60 (dk_at dksX0_tuneFromMemory_1 6 rfl rfl)
theorem dX0_tuneFromMemory_30 : decode cX0_tuneFromMemory 30 = .ok (.aload_n 0, 1) := dk_42 (dk_at dksX0_tuneFromMemory_1 7 rfl rfl)
theorem dX0_tuneFromMemory_31 : decode cX0_tuneFromMemory 31 = .ok (.aload_n 0, 1) := dk_42 (dk_at dksX0_tuneFromMemory_1 8 rfl rfl)
theorem dX0_tuneFromMemory_32 : decode cX0_tuneFromMemory 32 = .ok (.iload_n 1, 1) := dk_27 (dk_at dksX0_tuneFromMemory_1 9 rfl rfl)
theorem dX0_tuneFromMemory_33 : decode cX0_tuneFromMemory 33 = .ok (.invokevirtual 260, 3) := dk_182 1 4 (dk_at dksX0_tuneFromMemory_1 10 rfl rfl)
theorem dX0_tuneFromMemory_36 : decode cX0_tuneFromMemory 36 = .ok (.aload_n 0, 1) := dk_42 (dk_at dksX0_tuneFromMemory_1 13 rfl rfl)
theorem dX0_tuneFromMemory_37 : decode cX0_tuneFromMemory 37 = .ok (.iconst 0, 1) := dk_3 (dk_at dksX0_tuneFromMemory_1 14 rfl rfl)
theorem dX0_tuneFromMemory_38 : decode cX0_tuneFromMemory 38 = .ok (.invokevirtual 260, 3) := dk_182 1 4 (dk_at dksX0_tuneFromMemory_1 15 rfl rfl)
theorem dX0_tuneFromMemory_41 : decode cX0_tuneFromMemory 41 = .ok (.if_icmp .gt 7, 3) := dk_163 0 7 (dk_at dksX0_tuneFromMemory_1 18 rfl rfl)
theorem dX0_tuneFromMemory_44 : decode cX0_tuneFromMemory 44 = .ok (.iload_n 1, 1) := dk_27 (dk_at dksX0_tuneFromMemory_1 21 rfl rfl)
theorem dX0_tuneFromMemory_45 : decode cX0_tuneFromMemory 45 = .ok (.goto 4, 3) := dk_167 0 4 (dk_at dksX0_tuneFromMemory_2 0 rfl rfl)
theorem dX0_tuneFromMemory_48 : decode cX0_tuneFromMemory 48 = .ok (.iconst 0, 1) := dk_3 (dk_at dksX0_tuneFromMemory_2 3 rfl rfl)
theorem dX0_tuneFromMemory_49 : decode cX0_tuneFromMemory 49 = .ok (.invokevirtual 338, 3) := dk_182 1 82 (dk_at dksX0_tuneFromMemory_2 4 rfl rfl)
theorem dX0_tuneFromMemory_52 : decode cX0_tuneFromMemory 52 = .ok (.ireturn, 1) := dk_172 (dk_at dksX0_tuneFromMemory_2 7 rfl rfl)
theorem dX0_tuneFromMemory_53 : decode cX0_tuneFromMemory 53 = .ok (.astore_n 1, 1) := dk_76 (dk_at dksX0_tuneFromMemory_2 8 rfl rfl)
theorem dX0_tuneFromMemory_54 : decode cX0_tuneFromMemory 54 = .ok (.aload_n 0, 1) := dk_42 (dk_at dksX0_tuneFromMemory_2 9 rfl rfl)
theorem dX0_tuneFromMemory_55 : decode cX0_tuneFromMemory 55 = .ok (.new 330, 3) := dk_187 1 74 (dk_at dksX0_tuneFromMemory_2 10 rfl rfl)
theorem dX0_tuneFromMemory_58 : decode cX0_tuneFromMemory 58 = .ok (.dup, 1) := dk_89 (dk_at dksX0_tuneFromMemory_2 13 rfl rfl)
theorem dX0_tuneFromMemory_59 : decode cX0_tuneFromMemory 59 = .ok (.iconst 0, 1) := dk_3 (dk_at dksX0_tuneFromMemory_2 14 rfl rfl)
theorem dX0_tuneFromMemory_60 : decode cX0_tuneFromMemory 60 = .ok (.aload_n 1, 1) := dk_43 (dk_at dksX0_tuneFromMemory_2 15 rfl rfl)
theorem dX0_tuneFromMemory_61 : decode cX0_tuneFromMemory 61 = .ok (.invokespecial 359, 3) := dk_183 1 103 (dk_at dksX0_tuneFromMemory_2 16 rfl rfl)
theorem dX0_tuneFromMemory_64 : decode cX0_tuneFromMemory 64 = .ok (.putfield 162, 3) := dk_181 0 162 (dk_at dksX0_tuneFromMemory_2 19 rfl rfl)
theorem dX0_tuneFromMemory_67 : decode cX0_tuneFromMemory 67 = .ok (.bipush (-2), 2) := dk_16 254 (dk_at dksX0_tuneFromMemory_2 22 rfl rfl)
theorem dX0_tuneFromMemory_69 : decode cX0_tuneFromMemory 69 = .ok (.ireturn, 1) := dk_172 (dk_at dksX0_tuneFromMemory_3 0 rfl rfl)
abbrev cX0_suitable : ByteArray := prog_1_method_63_code
def yX0_suitable : MethodName := ⟨RX0, "suitable", "()I"⟩
def dkwX0_suitable_5 : List UInt8 := [167, 0, 4, 1, 183, 1, 140, 191, 27, 172]
abbrev dktX0_suitable_5 : List UInt8 := dkwX0_suitable_5 ++ []
def dkwX0_suitable_4 : List UInt8 := [61, 187, 1, 101, 89, 42, 180, 0, 114, 180, 0, 196, 28, 153, 0, 13, 187, 1, 137, 89, 183, 1, 139]
abbrev dktX0_suitable_4 : List UInt8 := dkwX0_suitable_4 ++ dktX0_suitable_5
def dkwX0_suitable_3 : List UInt8 := [42, 180, 0, 100, 42, 180, 0, 114, 180, 0, 196, 182, 0, 189, 16, 254, 160, 0, 7, 4, 167, 0, 4, 3]
abbrev dktX0_suitable_3 : List UInt8 := dkwX0_suitable_3 ++ dktX0_suitable_4
def dkwX0_suitable_2 : List UInt8 := [182, 1, 134, 42, 27, 182, 1, 134, 162, 0, 5, 28, 60, 132, 2, 1, 167, 255, 198, 27, 2, 160, 0, 58]
abbrev dktX0_suitable_2 : List UInt8 := dkwX0_suitable_2 ++ dktX0_suitable_3
def dkwX0_suitable_1 : List UInt8 := [180, 1, 85, 28, 182, 1, 92, 192, 1, 98, 182, 1, 130, 153, 0, 23, 27, 2, 159, 0, 16, 42, 28]
abbrev dktX0_suitable_1 : List UInt8 := dkwX0_suitable_1 ++ dktX0_suitable_2
def dkwX0_suitable_0 : List UInt8 := [2, 60, 3, 61, 28, 42, 180, 0, 114, 180, 1, 85, 182, 1, 129, 162, 0, 50, 42, 42, 180, 0, 114]
abbrev dktX0_suitable_0 : List UInt8 := dkwX0_suitable_0 ++ dktX0_suitable_1
theorem dksX0_suitable_0 : cX0_suitable.data.toList.drop 0 = dktX0_suitable_0 := by decide +kernel
theorem dksX0_suitable_1 : cX0_suitable.data.toList.drop 23 = dktX0_suitable_1 := dk_seg dksX0_suitable_0 23 rfl rfl
theorem dksX0_suitable_2 : cX0_suitable.data.toList.drop 46 = dktX0_suitable_2 := dk_seg dksX0_suitable_1 23 rfl rfl
theorem dksX0_suitable_3 : cX0_suitable.data.toList.drop 70 = dktX0_suitable_3 := dk_seg dksX0_suitable_2 24 rfl rfl
theorem dksX0_suitable_4 : cX0_suitable.data.toList.drop 94 = dktX0_suitable_4 := dk_seg dksX0_suitable_3 24 rfl rfl
theorem dksX0_suitable_5 : cX0_suitable.data.toList.drop 117 = dktX0_suitable_5 := dk_seg dksX0_suitable_4 23 rfl rfl
theorem dX0_suitable_0 : decode cX0_suitable 0 = .ok (.iconst (-1), 1) := dk_2 (dk_at dksX0_suitable_0 0 rfl rfl)
theorem dX0_suitable_1 : decode cX0_suitable 1 = .ok (.istore_n 1, 1) := dk_60 (dk_at dksX0_suitable_0 1 rfl rfl)
theorem dX0_suitable_2 : decode cX0_suitable 2 = .ok (.iconst 0, 1) := dk_3 (dk_at dksX0_suitable_0 2 rfl rfl)
theorem dX0_suitable_3 : decode cX0_suitable 3 = .ok (.istore_n 2, 1) := dk_61 (dk_at dksX0_suitable_0 3 rfl rfl)
theorem dX0_suitable_4 : decode cX0_suitable 4 = .ok (.iload_n 2, 1) := dk_28 (dk_at dksX0_suitable_0 4 rfl rfl)
theorem dX0_suitable_5 : decode cX0_suitable 5 = .ok (.aload_n 0, 1) := dk_42 (dk_at dksX0_suitable_0 5 rfl rfl)
theorem dX0_suitable_6 : decode cX0_suitable 6 = .ok (.getfield 114, 3) := dk_180 0 114 (dk_at dksX0_suitable_0 6 rfl rfl)
theorem dX0_suitable_9 : decode cX0_suitable 9 = .ok (.getfield 341, 3) := dk_180 1 85 (dk_at dksX0_suitable_0 9 rfl rfl)
theorem dX0_suitable_12 : decode cX0_suitable 12 = .ok (.invokevirtual 385, 3) := dk_182 1 129 (dk_at dksX0_suitable_0 12 rfl rfl)
theorem dX0_suitable_15 : decode cX0_suitable 15 = .ok (.if_icmp .ge 50, 3) := dk_162 0 50 (dk_at dksX0_suitable_0 15 rfl rfl)
theorem dX0_suitable_18 : decode cX0_suitable 18 = .ok (.aload_n 0, 1) := dk_42 (dk_at dksX0_suitable_0 18 rfl rfl)
theorem dX0_suitable_19 : decode cX0_suitable 19 = .ok (.aload_n 0, 1) := dk_42 (dk_at dksX0_suitable_0 19 rfl rfl)
theorem dX0_suitable_20 : decode cX0_suitable 20 = .ok (.getfield 114, 3) := dk_180 0 114 (dk_at dksX0_suitable_0 20 rfl rfl)
theorem dX0_suitable_23 : decode cX0_suitable 23 = .ok (.getfield 341, 3) := dk_180 1 85 (dk_at dksX0_suitable_1 0 rfl rfl)
theorem dX0_suitable_26 : decode cX0_suitable 26 = .ok (.iload_n 2, 1) := dk_28 (dk_at dksX0_suitable_1 3 rfl rfl)
theorem dX0_suitable_27 : decode cX0_suitable 27 = .ok (.invokevirtual 348, 3) := dk_182 1 92 (dk_at dksX0_suitable_1 4 rfl rfl)
theorem dX0_suitable_30 : decode cX0_suitable 30 = .ok (.checkcast 354, 3) := dk_192 1 98 (dk_at dksX0_suitable_1 7 rfl rfl)
theorem dX0_suitable_33 : decode cX0_suitable 33 = .ok (.invokevirtual 386, 3) := dk_182 1 130 (dk_at dksX0_suitable_1 10 rfl rfl)
theorem dX0_suitable_36 : decode cX0_suitable 36 = .ok (.ifCond .eq 23, 3) := dk_153 0 23 (dk_at dksX0_suitable_1 13 rfl rfl)
theorem dX0_suitable_39 : decode cX0_suitable 39 = .ok (.iload_n 1, 1) := dk_27 (dk_at dksX0_suitable_1 16 rfl rfl)
theorem dX0_suitable_40 : decode cX0_suitable 40 = .ok (.iconst (-1), 1) := dk_2 (dk_at dksX0_suitable_1 17 rfl rfl)
theorem dX0_suitable_41 : decode cX0_suitable 41 = .ok (.if_icmp .eq 16, 3) := dk_159 0 16 (dk_at dksX0_suitable_1 18 rfl rfl)
theorem dX0_suitable_44 : decode cX0_suitable 44 = .ok (.aload_n 0, 1) := dk_42 (dk_at dksX0_suitable_1 21 rfl rfl)
theorem dX0_suitable_45 : decode cX0_suitable 45 = .ok (.iload_n 2, 1) := dk_28 (dk_at dksX0_suitable_1 22 rfl rfl)
theorem dX0_suitable_46 : decode cX0_suitable 46 = .ok (.invokevirtual 390, 3) := dk_182 1 134 (dk_at dksX0_suitable_2 0 rfl rfl)
theorem dX0_suitable_49 : decode cX0_suitable 49 = .ok (.aload_n 0, 1) := dk_42 (dk_at dksX0_suitable_2 3 rfl rfl)
theorem dX0_suitable_50 : decode cX0_suitable 50 = .ok (.iload_n 1, 1) := dk_27 (dk_at dksX0_suitable_2 4 rfl rfl)
theorem dX0_suitable_51 : decode cX0_suitable 51 = .ok (.invokevirtual 390, 3) := dk_182 1 134 (dk_at dksX0_suitable_2 5 rfl rfl)
theorem dX0_suitable_54 : decode cX0_suitable 54 = .ok (.if_icmp .ge 5, 3) := dk_162 0 5 (dk_at dksX0_suitable_2 8 rfl rfl)
theorem dX0_suitable_57 : decode cX0_suitable 57 = .ok (.iload_n 2, 1) := dk_28 (dk_at dksX0_suitable_2 11 rfl rfl)
theorem dX0_suitable_58 : decode cX0_suitable 58 = .ok (.istore_n 1, 1) := dk_60 (dk_at dksX0_suitable_2 12 rfl rfl)
theorem dX0_suitable_59 : decode cX0_suitable 59 = .ok (.iinc 2 1, 3) := dk_132 2 1 (dk_at dksX0_suitable_2 13 rfl rfl)
theorem dX0_suitable_62 : decode cX0_suitable 62 = .ok (.goto (-58), 3) := dk_167 255 198 (dk_at dksX0_suitable_2 16 rfl rfl)
theorem dX0_suitable_65 : decode cX0_suitable 65 = .ok (.iload_n 1, 1) := dk_27 (dk_at dksX0_suitable_2 19 rfl rfl)
theorem dX0_suitable_66 : decode cX0_suitable 66 = .ok (.iconst (-1), 1) := dk_2 (dk_at dksX0_suitable_2 20 rfl rfl)
theorem dX0_suitable_67 : decode cX0_suitable 67 = .ok (.if_icmp .ne 58, 3) := dk_160 0 58 (dk_at dksX0_suitable_2 21 rfl rfl)
theorem dX0_suitable_70 : decode cX0_suitable 70 = .ok (.aload_n 0, 1) := dk_42 (dk_at dksX0_suitable_3 0 rfl rfl)
theorem dX0_suitable_71 : decode cX0_suitable 71 = .ok (.getfield 100, 3) := dk_180 0 100 (dk_at dksX0_suitable_3 1 rfl rfl)
theorem dX0_suitable_74 : decode cX0_suitable 74 = .ok (.aload_n 0, 1) := dk_42 (dk_at dksX0_suitable_3 4 rfl rfl)
theorem dX0_suitable_75 : decode cX0_suitable 75 = .ok (.getfield 114, 3) := dk_180 0 114 (dk_at dksX0_suitable_3 5 rfl rfl)
theorem dX0_suitable_78 : decode cX0_suitable 78 = .ok (.getfield 196, 3) := dk_180 0 196 (dk_at dksX0_suitable_3 8 rfl rfl)
theorem dX0_suitable_81 : decode cX0_suitable 81 = .ok (.invokevirtual 189, 3) := dk_182 0 189 (dk_at dksX0_suitable_3 11 rfl rfl)
theorem dX0_suitable_84 : decode cX0_suitable 84 = .ok (.bipush (-2), 2) := dk_16 254 (dk_at dksX0_suitable_3 14 rfl rfl)
theorem dX0_suitable_86 : decode cX0_suitable 86 = .ok (.if_icmp .ne 7, 3) := dk_160 0 7 (dk_at dksX0_suitable_3 16 rfl rfl)
theorem dX0_suitable_89 : decode cX0_suitable 89 = .ok (.iconst 1, 1) := dk_4 (dk_at dksX0_suitable_3 19 rfl rfl)
theorem dX0_suitable_90 : decode cX0_suitable 90 = .ok (.goto 4, 3) := dk_167 0 4 (dk_at dksX0_suitable_3 20 rfl rfl)
theorem dX0_suitable_93 : decode cX0_suitable 93 = .ok (.iconst 0, 1) := dk_3 (dk_at dksX0_suitable_3 23 rfl rfl)
theorem dX0_suitable_94 : decode cX0_suitable 94 = .ok (.istore_n 2, 1) := dk_61 (dk_at dksX0_suitable_4 0 rfl rfl)
theorem dX0_suitable_95 : decode cX0_suitable 95 = .ok (.new 357, 3) := dk_187 1 101 (dk_at dksX0_suitable_4 1 rfl rfl)
theorem dX0_suitable_98 : decode cX0_suitable 98 = .ok (.dup, 1) := dk_89 (dk_at dksX0_suitable_4 4 rfl rfl)
theorem dX0_suitable_99 : decode cX0_suitable 99 = .ok (.aload_n 0, 1) := dk_42 (dk_at dksX0_suitable_4 5 rfl rfl)
theorem dX0_suitable_100 : decode cX0_suitable 100 = .ok (.getfield 114, 3) := dk_180 0 114 (dk_at dksX0_suitable_4 6 rfl rfl)
theorem dX0_suitable_103 : decode cX0_suitable 103 = .ok (.getfield 196, 3) := dk_180 0 196 (dk_at dksX0_suitable_4 9 rfl rfl)
theorem dX0_suitable_106 : decode cX0_suitable 106 = .ok (.iload_n 2, 1) := dk_28 (dk_at dksX0_suitable_4 12 rfl rfl)
theorem dX0_suitable_107 : decode cX0_suitable 107 = .ok (.ifCond .eq 13, 3) := dk_153 0 13 (dk_at dksX0_suitable_4 13 rfl rfl)
theorem dX0_suitable_110 : decode cX0_suitable 110 = .ok (.new 393, 3) := dk_187 1 137 (dk_at dksX0_suitable_4 16 rfl rfl)
theorem dX0_suitable_113 : decode cX0_suitable 113 = .ok (.dup, 1) := dk_89 (dk_at dksX0_suitable_4 19 rfl rfl)
theorem dX0_suitable_114 : decode cX0_suitable 114 = .ok (.invokespecial 395, 3) := dk_183 1 139 (dk_at dksX0_suitable_4 20 rfl rfl)
theorem dX0_suitable_117 : decode cX0_suitable 117 = .ok (.goto 4, 3) := dk_167 0 4 (dk_at dksX0_suitable_5 0 rfl rfl)
theorem dX0_suitable_120 : decode cX0_suitable 120 = .ok (.aconst_null, 1) := dk_1 (dk_at dksX0_suitable_5 3 rfl rfl)
theorem dX0_suitable_121 : decode cX0_suitable 121 = .ok (.invokespecial 396, 3) := dk_183 1 140 (dk_at dksX0_suitable_5 4 rfl rfl)
theorem dX0_suitable_124 : decode cX0_suitable 124 = .ok (.athrow, 1) := dk_191 (dk_at dksX0_suitable_5 7 rfl rfl)
theorem dX0_suitable_125 : decode cX0_suitable 125 = .ok (.iload_n 1, 1) := dk_27 (dk_at dksX0_suitable_5 8 rfl rfl)
theorem dX0_suitable_126 : decode cX0_suitable 126 = .ok (.ireturn, 1) := dk_172 (dk_at dksX0_suitable_5 9 rfl rfl)
abbrev cX0_isSuitable : ByteArray := prog_1_method_61_code
def yX0_isSuitable : MethodName := ⟨RX0, "isSuitable", "(LAntennaTuner$Entry;)Z"⟩
def dkwX0_isSuitable_1 : List UInt8 := [180, 0, 100, 43, 180, 1, 125, 182, 0, 189, 28, 160, 0, 7, 4, 167, 0, 4, 3, 172]
abbrev dktX0_isSuitable_1 : List UInt8 := dkwX0_isSuitable_1 ++ []
def dkwX0_isSuitable_0 : List UInt8 := [42, 180, 0, 100, 42, 180, 0, 114, 180, 0, 196, 182, 0, 189, 61, 28, 16, 254, 159, 0, 22, 42]
abbrev dktX0_isSuitable_0 : List UInt8 := dkwX0_isSuitable_0 ++ dktX0_isSuitable_1
theorem dksX0_isSuitable_0 : cX0_isSuitable.data.toList.drop 0 = dktX0_isSuitable_0 := by decide +kernel
theorem dksX0_isSuitable_1 : cX0_isSuitable.data.toList.drop 22 = dktX0_isSuitable_1 := dk_seg dksX0_isSuitable_0 22 rfl rfl
theorem dX0_isSuitable_0 : decode cX0_isSuitable 0 = .ok (.aload_n 0, 1) := dk_42 (dk_at dksX0_isSuitable_0 0 rfl rfl)
theorem dX0_isSuitable_1 : decode cX0_isSuitable 1 = .ok (.getfield 100, 3) := dk_180 0 100 (dk_at dksX0_isSuitable_0 1 rfl rfl)
theorem dX0_isSuitable_4 : decode cX0_isSuitable 4 = .ok (.aload_n 0, 1) := dk_42 (dk_at dksX0_isSuitable_0 4 rfl rfl)
theorem dX0_isSuitable_5 : decode cX0_isSuitable 5 = .ok (.getfield 114, 3) := dk_180 0 114 (dk_at dksX0_isSuitable_0 5 rfl rfl)
theorem dX0_isSuitable_8 : decode cX0_isSuitable 8 = .ok (.getfield 196, 3) := dk_180 0 196 (dk_at dksX0_isSuitable_0 8 rfl rfl)
theorem dX0_isSuitable_11 : decode cX0_isSuitable 11 = .ok (.invokevirtual 189, 3) := dk_182 0 189 (dk_at dksX0_isSuitable_0 11 rfl rfl)
theorem dX0_isSuitable_14 : decode cX0_isSuitable 14 = .ok (.istore_n 2, 1) := dk_61 (dk_at dksX0_isSuitable_0 14 rfl rfl)
theorem dX0_isSuitable_15 : decode cX0_isSuitable 15 = .ok (.iload_n 2, 1) := dk_28 (dk_at dksX0_isSuitable_0 15 rfl rfl)
theorem dX0_isSuitable_16 : decode cX0_isSuitable 16 = .ok (.bipush (-2), 2) := dk_16 254 (dk_at dksX0_isSuitable_0 16 rfl rfl)
theorem dX0_isSuitable_18 : decode cX0_isSuitable 18 = .ok (.if_icmp .eq 22, 3) := dk_159 0 22 (dk_at dksX0_isSuitable_0 18 rfl rfl)
theorem dX0_isSuitable_21 : decode cX0_isSuitable 21 = .ok (.aload_n 0, 1) := dk_42 (dk_at dksX0_isSuitable_0 21 rfl rfl)
theorem dX0_isSuitable_22 : decode cX0_isSuitable 22 = .ok (.getfield 100, 3) := dk_180 0 100 (dk_at dksX0_isSuitable_1 0 rfl rfl)
theorem dX0_isSuitable_25 : decode cX0_isSuitable 25 = .ok (.aload_n 1, 1) := dk_43 (dk_at dksX0_isSuitable_1 3 rfl rfl)
theorem dX0_isSuitable_26 : decode cX0_isSuitable 26 = .ok (.getfield 381, 3) := dk_180 1 125 (dk_at dksX0_isSuitable_1 4 rfl rfl)
theorem dX0_isSuitable_29 : decode cX0_isSuitable 29 = .ok (.invokevirtual 189, 3) := dk_182 0 189 (dk_at dksX0_isSuitable_1 7 rfl rfl)
theorem dX0_isSuitable_32 : decode cX0_isSuitable 32 = .ok (.iload_n 2, 1) := dk_28 (dk_at dksX0_isSuitable_1 10 rfl rfl)
theorem dX0_isSuitable_33 : decode cX0_isSuitable 33 = .ok (.if_icmp .ne 7, 3) := dk_160 0 7 (dk_at dksX0_isSuitable_1 11 rfl rfl)
theorem dX0_isSuitable_36 : decode cX0_isSuitable 36 = .ok (.iconst 1, 1) := dk_4 (dk_at dksX0_isSuitable_1 14 rfl rfl)
theorem dX0_isSuitable_37 : decode cX0_isSuitable 37 = .ok (.goto 4, 3) := dk_167 0 4 (dk_at dksX0_isSuitable_1 15 rfl rfl)
theorem dX0_isSuitable_40 : decode cX0_isSuitable 40 = .ok (.iconst 0, 1) := dk_3 (dk_at dksX0_isSuitable_1 18 rfl rfl)
theorem dX0_isSuitable_41 : decode cX0_isSuitable 41 = .ok (.ireturn, 1) := dk_172 (dk_at dksX0_isSuitable_1 19 rfl rfl)
abbrev cX0_distanceTo : ByteArray := prog_1_method_62_code
def yX0_distanceTo : MethodName := ⟨RX0, "distanceTo", "(I)I"⟩
def dkwX0_distanceTo_1 : List UInt8 := [100, 184, 1, 126, 172]
abbrev dktX0_distanceTo_1 : List UInt8 := dkwX0_distanceTo_1 ++ []
def dkwX0_distanceTo_0 : List UInt8 := [42, 180, 0, 114, 180, 1, 85, 27, 182, 1, 92, 192, 1, 98, 180, 1, 125, 42, 180, 0, 114, 180, 0, 196]
abbrev dktX0_distanceTo_0 : List UInt8 := dkwX0_distanceTo_0 ++ dktX0_distanceTo_1
theorem dksX0_distanceTo_0 : cX0_distanceTo.data.toList.drop 0 = dktX0_distanceTo_0 := by decide +kernel
theorem dksX0_distanceTo_1 : cX0_distanceTo.data.toList.drop 24 = dktX0_distanceTo_1 := dk_seg dksX0_distanceTo_0 24 rfl rfl
theorem dX0_distanceTo_0 : decode cX0_distanceTo 0 = .ok (.aload_n 0, 1) := dk_42 (dk_at dksX0_distanceTo_0 0 rfl rfl)
theorem dX0_distanceTo_1 : decode cX0_distanceTo 1 = .ok (.getfield 114, 3) := dk_180 0 114 (dk_at dksX0_distanceTo_0 1 rfl rfl)
theorem dX0_distanceTo_4 : decode cX0_distanceTo 4 = .ok (.getfield 341, 3) := dk_180 1 85 (dk_at dksX0_distanceTo_0 4 rfl rfl)
theorem dX0_distanceTo_7 : decode cX0_distanceTo 7 = .ok (.iload_n 1, 1) := dk_27 (dk_at dksX0_distanceTo_0 7 rfl rfl)
theorem dX0_distanceTo_8 : decode cX0_distanceTo 8 = .ok (.invokevirtual 348, 3) := dk_182 1 92 (dk_at dksX0_distanceTo_0 8 rfl rfl)
theorem dX0_distanceTo_11 : decode cX0_distanceTo 11 = .ok (.checkcast 354, 3) := dk_192 1 98 (dk_at dksX0_distanceTo_0 11 rfl rfl)
theorem dX0_distanceTo_14 : decode cX0_distanceTo 14 = .ok (.getfield 381, 3) := dk_180 1 125 (dk_at dksX0_distanceTo_0 14 rfl rfl)
theorem dX0_distanceTo_17 : decode cX0_distanceTo 17 = .ok (.aload_n 0, 1) := dk_42 (dk_at dksX0_distanceTo_0 17 rfl rfl)
theorem dX0_distanceTo_18 : decode cX0_distanceTo 18 = .ok (.getfield 114, 3) := dk_180 0 114 (dk_at dksX0_distanceTo_0 18 rfl rfl)
theorem dX0_distanceTo_21 : decode cX0_distanceTo 21 = .ok (.getfield 196, 3) := dk_180 0 196 (dk_at dksX0_distanceTo_0 21 rfl rfl)
theorem dX0_distanceTo_24 : decode cX0_distanceTo 24 = .ok (.isub, 1) := dk_100 (dk_at dksX0_distanceTo_1 0 rfl rfl)
theorem dX0_distanceTo_25 : decode cX0_distanceTo 25 = .ok (.invokestatic 382, 3) := dk_184 1 126 (dk_at dksX0_distanceTo_1 1 rfl rfl)
theorem dX0_distanceTo_28 : decode cX0_distanceTo 28 = .ok (.ireturn, 1) := dk_172 (dk_at dksX0_distanceTo_1 4 rfl rfl)
abbrev cX0_evaluations : ByteArray := prog_1_method_54_code
def yX0_evaluations : MethodName := ⟨RX0, "evaluations", "()I"⟩
def dkwX0_evaluations_0 : List UInt8 := [42, 182, 0, 172, 153, 0, 10, 42, 180, 0, 166, 167, 0, 4, 2, 172]
abbrev dktX0_evaluations_0 : List UInt8 := dkwX0_evaluations_0 ++ []
theorem dksX0_evaluations_0 : cX0_evaluations.data.toList.drop 0 = dktX0_evaluations_0 := by decide +kernel
theorem dX0_evaluations_0 : decode cX0_evaluations 0 = .ok (.aload_n 0, 1) := dk_42 (dk_at dksX0_evaluations_0 0 rfl rfl)
theorem dX0_evaluations_1 : decode cX0_evaluations 1 = .ok (.invokevirtual 172, 3) := dk_182 0 172 (dk_at dksX0_evaluations_0 1 rfl rfl)
theorem dX0_evaluations_4 : decode cX0_evaluations 4 = .ok (.ifCond .eq 10, 3) := dk_153 0 10 (dk_at dksX0_evaluations_0 4 rfl rfl)
theorem dX0_evaluations_7 : decode cX0_evaluations 7 = .ok (.aload_n 0, 1) := dk_42 (dk_at dksX0_evaluations_0 7 rfl rfl)
theorem dX0_evaluations_8 : decode cX0_evaluations 8 = .ok (.getfield 166, 3) := dk_180 0 166 (dk_at dksX0_evaluations_0 8 rfl rfl)
theorem dX0_evaluations_11 : decode cX0_evaluations 11 = .ok (.goto 4, 3) := dk_167 0 4 (dk_at dksX0_evaluations_0 11 rfl rfl)
theorem dX0_evaluations_14 : decode cX0_evaluations 14 = .ok (.iconst (-1), 1) := dk_2 (dk_at dksX0_evaluations_0 14 rfl rfl)
theorem dX0_evaluations_15 : decode cX0_evaluations 15 = .ok (.ireturn, 1) := dk_172 (dk_at dksX0_evaluations_0 15 rfl rfl)
abbrev cX0_bestSettings : ByteArray := prog_1_method_55_code
def yX0_bestSettings : MethodName := ⟨RX0, "bestSettings", "()I"⟩
def dkwX0_bestSettings_2 : List UInt8 := [27, 172]
abbrev dktX0_bestSettings_2 : List UInt8 := dkwX0_bestSettings_2 ++ []
def dkwX0_bestSettings_1 : List UInt8 := [42, 29, 182, 1, 4, 54, 4, 21, 4, 28, 162, 0, 8, 29, 60, 21, 4, 61, 132, 3, 1, 167, 255, 228]
abbrev dktX0_bestSettings_1 : List UInt8 := dkwX0_bestSettings_1 ++ dktX0_bestSettings_2
def dkwX0_bestSettings_0 : List UInt8 := [42, 182, 0, 172, 154, 0, 5, 2, 172, 3, 60, 19, 1, 106, 61, 3, 62, 29, 17, 32, 0, 162, 0, 27]
abbrev dktX0_bestSettings_0 : List UInt8 := dkwX0_bestSettings_0 ++ dktX0_bestSettings_1
theorem dksX0_bestSettings_0 : cX0_bestSettings.data.toList.drop 0 = dktX0_bestSettings_0 := by decide +kernel
theorem dksX0_bestSettings_1 : cX0_bestSettings.data.toList.drop 24 = dktX0_bestSettings_1 := dk_seg dksX0_bestSettings_0 24 rfl rfl
theorem dksX0_bestSettings_2 : cX0_bestSettings.data.toList.drop 48 = dktX0_bestSettings_2 := dk_seg dksX0_bestSettings_1 24 rfl rfl
theorem dX0_bestSettings_0 : decode cX0_bestSettings 0 = .ok (.aload_n 0, 1) := dk_42 (dk_at dksX0_bestSettings_0 0 rfl rfl)
theorem dX0_bestSettings_1 : decode cX0_bestSettings 1 = .ok (.invokevirtual 172, 3) := dk_182 0 172 (dk_at dksX0_bestSettings_0 1 rfl rfl)
theorem dX0_bestSettings_4 : decode cX0_bestSettings 4 = .ok (.ifCond .ne 5, 3) := dk_154 0 5 (dk_at dksX0_bestSettings_0 4 rfl rfl)
theorem dX0_bestSettings_7 : decode cX0_bestSettings 7 = .ok (.iconst (-1), 1) := dk_2 (dk_at dksX0_bestSettings_0 7 rfl rfl)
theorem dX0_bestSettings_8 : decode cX0_bestSettings 8 = .ok (.ireturn, 1) := dk_172 (dk_at dksX0_bestSettings_0 8 rfl rfl)
theorem dX0_bestSettings_9 : decode cX0_bestSettings 9 = .ok (.iconst 0, 1) := dk_3 (dk_at dksX0_bestSettings_0 9 rfl rfl)
theorem dX0_bestSettings_10 : decode cX0_bestSettings 10 = .ok (.istore_n 1, 1) := dk_60 (dk_at dksX0_bestSettings_0 10 rfl rfl)
theorem dX0_bestSettings_11 : decode cX0_bestSettings 11 = .ok (.ldc_w 362, 3) := dk_19 1 106 (dk_at dksX0_bestSettings_0 11 rfl rfl)
theorem dX0_bestSettings_14 : decode cX0_bestSettings 14 = .ok (.istore_n 2, 1) := dk_61 (dk_at dksX0_bestSettings_0 14 rfl rfl)
theorem dX0_bestSettings_15 : decode cX0_bestSettings 15 = .ok (.iconst 0, 1) := dk_3 (dk_at dksX0_bestSettings_0 15 rfl rfl)
theorem dX0_bestSettings_16 : decode cX0_bestSettings 16 = .ok (.istore_n 3, 1) := dk_62 (dk_at dksX0_bestSettings_0 16 rfl rfl)
theorem dX0_bestSettings_17 : decode cX0_bestSettings 17 = .ok (.iload_n 3, 1) := dk_29 (dk_at dksX0_bestSettings_0 17 rfl rfl)
theorem dX0_bestSettings_18 : decode cX0_bestSettings 18 = .ok (.sipush 8192, 3) := dk_17 32 0 (dk_at dksX0_bestSettings_0 18 rfl rfl)
theorem dX0_bestSettings_21 : decode cX0_bestSettings 21 = .ok (.if_icmp .ge 27, 3) := dk_162 0 27 (dk_at dksX0_bestSettings_0 21 rfl rfl)
theorem dX0_bestSettings_24 : decode cX0_bestSettings 24 = .ok (.aload_n 0, 1) := dk_42 (dk_at dksX0_bestSettings_1 0 rfl rfl)
theorem dX0_bestSettings_25 : decode cX0_bestSettings 25 = .ok (.iload_n 3, 1) := dk_29 (dk_at dksX0_bestSettings_1 1 rfl rfl)
theorem dX0_bestSettings_26 : decode cX0_bestSettings 26 = .ok (.invokevirtual 260, 3) := dk_182 1 4 (dk_at dksX0_bestSettings_1 2 rfl rfl)
theorem dX0_bestSettings_29 : decode cX0_bestSettings 29 = .ok (.istore 4, 2) := dk_54 4 (dk_at dksX0_bestSettings_1 5 rfl rfl)
theorem dX0_bestSettings_31 : decode cX0_bestSettings 31 = .ok (.iload 4, 2) := dk_21 4 (dk_at dksX0_bestSettings_1 7 rfl rfl)
theorem dX0_bestSettings_33 : decode cX0_bestSettings 33 = .ok (.iload_n 2, 1) := dk_28 (dk_at dksX0_bestSettings_1 9 rfl rfl)
theorem dX0_bestSettings_34 : decode cX0_bestSettings 34 = .ok (.if_icmp .ge 8, 3) := dk_162 0 8 (dk_at dksX0_bestSettings_1 10 rfl rfl)
theorem dX0_bestSettings_37 : decode cX0_bestSettings 37 = .ok (.iload_n 3, 1) := dk_29 (dk_at dksX0_bestSettings_1 13 rfl rfl)
theorem dX0_bestSettings_38 : decode cX0_bestSettings 38 = .ok (.istore_n 1, 1) := dk_60 (dk_at dksX0_bestSettings_1 14 rfl rfl)
theorem dX0_bestSettings_39 : decode cX0_bestSettings 39 = .ok (.iload 4, 2) := dk_21 4 (dk_at dksX0_bestSettings_1 15 rfl rfl)
theorem dX0_bestSettings_41 : decode cX0_bestSettings 41 = .ok (.istore_n 2, 1) := dk_61 (dk_at dksX0_bestSettings_1 17 rfl rfl)
theorem dX0_bestSettings_42 : decode cX0_bestSettings 42 = .ok (.iinc 3 1, 3) := dk_132 3 1 (dk_at dksX0_bestSettings_1 18 rfl rfl)
theorem dX0_bestSettings_45 : decode cX0_bestSettings 45 = .ok (.goto (-28), 3) := dk_167 255 228 (dk_at dksX0_bestSettings_1 21 rfl rfl)
theorem dX0_bestSettings_48 : decode cX0_bestSettings 48 = .ok (.iload_n 1, 1) := dk_27 (dk_at dksX0_bestSettings_2 0 rfl rfl)
theorem dX0_bestSettings_49 : decode cX0_bestSettings 49 = .ok (.ireturn, 1) := dk_172 (dk_at dksX0_bestSettings_2 1 rfl rfl)
abbrev cX0_mostEfficient : ByteArray := prog_1_method_56_code
def yX0_mostEfficient : MethodName := ⟨RX0, "mostEfficient", "()I"⟩
def dkwX0_mostEfficient_3 : List UInt8 := [132, 3, 1, 167, 255, 198, 27, 172]
abbrev dktX0_mostEfficient_3 : List UInt8 := dkwX0_mostEfficient_3 ++ []
def dkwX0_mostEfficient_2 : List UInt8 := [153, 0, 24, 42, 180, 0, 89, 182, 1, 7, 28, 164, 0, 13, 29, 60, 42, 180, 0, 89, 182, 1, 7, 61]
abbrev dktX0_mostEfficient_2 : List UInt8 := dkwX0_mostEfficient_2 ++ dktX0_mostEfficient_3
def dkwX0_mostEfficient_1 : List UInt8 := [29, 182, 1, 4, 42, 180, 0, 100, 180, 1, 19, 163, 0, 7, 4, 167, 0, 4, 3, 54, 4, 21, 4]
abbrev dktX0_mostEfficient_1 : List UInt8 := dkwX0_mostEfficient_1 ++ dktX0_mostEfficient_2
def dkwX0_mostEfficient_0 : List UInt8 := [42, 182, 0, 172, 154, 0, 5, 2, 172, 16, 254, 60, 2, 61, 3, 62, 29, 17, 32, 0, 162, 0, 57, 42]
abbrev dktX0_mostEfficient_0 : List UInt8 := dkwX0_mostEfficient_0 ++ dktX0_mostEfficient_1
theorem dksX0_mostEfficient_0 : cX0_mostEfficient.data.toList.drop 0 = dktX0_mostEfficient_0 := by decide +kernel
theorem dksX0_mostEfficient_1 : cX0_mostEfficient.data.toList.drop 24 = dktX0_mostEfficient_1 := dk_seg dksX0_mostEfficient_0 24 rfl rfl
theorem dksX0_mostEfficient_2 : cX0_mostEfficient.data.toList.drop 47 = dktX0_mostEfficient_2 := dk_seg dksX0_mostEfficient_1 23 rfl rfl
theorem dksX0_mostEfficient_3 : cX0_mostEfficient.data.toList.drop 71 = dktX0_mostEfficient_3 := dk_seg dksX0_mostEfficient_2 24 rfl rfl
theorem dX0_mostEfficient_0 : decode cX0_mostEfficient 0 = .ok (.aload_n 0, 1) := dk_42 (dk_at dksX0_mostEfficient_0 0 rfl rfl)
theorem dX0_mostEfficient_1 : decode cX0_mostEfficient 1 = .ok (.invokevirtual 172, 3) := dk_182 0 172 (dk_at dksX0_mostEfficient_0 1 rfl rfl)
theorem dX0_mostEfficient_4 : decode cX0_mostEfficient 4 = .ok (.ifCond .ne 5, 3) := dk_154 0 5 (dk_at dksX0_mostEfficient_0 4 rfl rfl)
theorem dX0_mostEfficient_7 : decode cX0_mostEfficient 7 = .ok (.iconst (-1), 1) := dk_2 (dk_at dksX0_mostEfficient_0 7 rfl rfl)
theorem dX0_mostEfficient_8 : decode cX0_mostEfficient 8 = .ok (.ireturn, 1) := dk_172 (dk_at dksX0_mostEfficient_0 8 rfl rfl)
theorem dX0_mostEfficient_9 : decode cX0_mostEfficient 9 = .ok (.bipush (-2), 2) := dk_16 254 (dk_at dksX0_mostEfficient_0 9 rfl rfl)
theorem dX0_mostEfficient_11 : decode cX0_mostEfficient 11 = .ok (.istore_n 1, 1) := dk_60 (dk_at dksX0_mostEfficient_0 11 rfl rfl)
theorem dX0_mostEfficient_12 : decode cX0_mostEfficient 12 = .ok (.iconst (-1), 1) := dk_2 (dk_at dksX0_mostEfficient_0 12 rfl rfl)
theorem dX0_mostEfficient_13 : decode cX0_mostEfficient 13 = .ok (.istore_n 2, 1) := dk_61 (dk_at dksX0_mostEfficient_0 13 rfl rfl)
theorem dX0_mostEfficient_14 : decode cX0_mostEfficient 14 = .ok (.iconst 0, 1) := dk_3 (dk_at dksX0_mostEfficient_0 14 rfl rfl)
theorem dX0_mostEfficient_15 : decode cX0_mostEfficient 15 = .ok (.istore_n 3, 1) := dk_62 (dk_at dksX0_mostEfficient_0 15 rfl rfl)
theorem dX0_mostEfficient_16 : decode cX0_mostEfficient 16 = .ok (.iload_n 3, 1) := dk_29 (dk_at dksX0_mostEfficient_0 16 rfl rfl)
theorem dX0_mostEfficient_17 : decode cX0_mostEfficient 17 = .ok (.sipush 8192, 3) := dk_17 32 0 (dk_at dksX0_mostEfficient_0 17 rfl rfl)
theorem dX0_mostEfficient_20 : decode cX0_mostEfficient 20 = .ok (.if_icmp .ge 57, 3) := dk_162 0 57 (dk_at dksX0_mostEfficient_0 20 rfl rfl)
theorem dX0_mostEfficient_23 : decode cX0_mostEfficient 23 = .ok (.aload_n 0, 1) := dk_42 (dk_at dksX0_mostEfficient_0 23 rfl rfl)
theorem dX0_mostEfficient_24 : decode cX0_mostEfficient 24 = .ok (.iload_n 3, 1) := dk_29 (dk_at dksX0_mostEfficient_1 0 rfl rfl)
theorem dX0_mostEfficient_25 : decode cX0_mostEfficient 25 = .ok (.invokevirtual 260, 3) := dk_182 1 4 (dk_at dksX0_mostEfficient_1 1 rfl rfl)
theorem dX0_mostEfficient_28 : decode cX0_mostEfficient 28 = .ok (.aload_n 0, 1) := dk_42 (dk_at dksX0_mostEfficient_1 4 rfl rfl)
theorem dX0_mostEfficient_29 : decode cX0_mostEfficient 29 = .ok (.getfield 100, 3) := dk_180 0 100 (dk_at dksX0_mostEfficient_1 5 rfl rfl)
theorem dX0_mostEfficient_32 : decode cX0_mostEfficient 32 = .ok (.getfield 275, 3) := dk_180 1 19 (dk_at dksX0_mostEfficient_1 8 rfl rfl)
theorem dX0_mostEfficient_35 : decode cX0_mostEfficient 35 = .ok (.if_icmp .gt 7, 3) := dk_163 0 7 (dk_at dksX0_mostEfficient_1 11 rfl rfl)
theorem dX0_mostEfficient_38 : decode cX0_mostEfficient 38 = .ok (.iconst 1, 1) := dk_4 (dk_at dksX0_mostEfficient_1 14 rfl rfl)
theorem dX0_mostEfficient_39 : decode cX0_mostEfficient 39 = .ok (.goto 4, 3) := dk_167 0 4 (dk_at dksX0_mostEfficient_1 15 rfl rfl)
theorem dX0_mostEfficient_42 : decode cX0_mostEfficient 42 = .ok (.iconst 0, 1) := dk_3 (dk_at dksX0_mostEfficient_1 18 rfl rfl)
theorem dX0_mostEfficient_43 : decode cX0_mostEfficient 43 = .ok (.istore 4, 2) := dk_54 4 (dk_at dksX0_mostEfficient_1 19 rfl rfl)
theorem dX0_mostEfficient_45 : decode cX0_mostEfficient 45 = .ok (.iload 4, 2) := dk_21 4 (dk_at dksX0_mostEfficient_1 21 rfl rfl)
theorem dX0_mostEfficient_47 : decode cX0_mostEfficient 47 = .ok (.ifCond .eq 24, 3) := dk_153 0 24 (dk_at dksX0_mostEfficient_2 0 rfl rfl)
theorem dX0_mostEfficient_50 : decode cX0_mostEfficient 50 = .ok (.aload_n 0, 1) := dk_42 (dk_at dksX0_mostEfficient_2 3 rfl rfl)
theorem dX0_mostEfficient_51 : decode cX0_mostEfficient 51 = .ok (.getfield 89, 3) := dk_180 0 89 (dk_at dksX0_mostEfficient_2 4 rfl rfl)
theorem dX0_mostEfficient_54 : decode cX0_mostEfficient 54 = .ok (.invokevirtual 263, 3) := dk_182 1 7 (dk_at dksX0_mostEfficient_2 7 rfl rfl)
theorem dX0_mostEfficient_57 : decode cX0_mostEfficient 57 = .ok (.iload_n 2, 1) := dk_28 (dk_at dksX0_mostEfficient_2 10 rfl rfl)
theorem dX0_mostEfficient_58 : decode cX0_mostEfficient 58 = .ok (.if_icmp .le 13, 3) := dk_164 0 13 (dk_at dksX0_mostEfficient_2 11 rfl rfl)
theorem dX0_mostEfficient_61 : decode cX0_mostEfficient 61 = .ok (.iload_n 3, 1) := dk_29 (dk_at dksX0_mostEfficient_2 14 rfl rfl)
theorem dX0_mostEfficient_62 : decode cX0_mostEfficient 62 = .ok (.istore_n 1, 1) := dk_60 (dk_at dksX0_mostEfficient_2 15 rfl rfl)
theorem dX0_mostEfficient_63 : decode cX0_mostEfficient 63 = .ok (.aload_n 0, 1) := dk_42 (dk_at dksX0_mostEfficient_2 16 rfl rfl)
theorem dX0_mostEfficient_64 : decode cX0_mostEfficient 64 = .ok (.getfield 89, 3) := dk_180 0 89 (dk_at dksX0_mostEfficient_2 17 rfl rfl)
theorem dX0_mostEfficient_67 : decode cX0_mostEfficient 67 = .ok (.invokevirtual 263, 3) := dk_182 1 7 (dk_at dksX0_mostEfficient_2 20 rfl rfl)
theorem dX0_mostEfficient_70 : decode cX0_mostEfficient 70 = .ok (.istore_n 2, 1) := dk_61 (dk_at dksX0_mostEfficient_2 23 rfl rfl)
theorem dX0_mostEfficient_71 : decode cX0_mostEfficient 71 = .ok (.iinc 3 1, 3) := dk_132 3 1 (dk_at dksX0_mostEfficient_3 0 rfl rfl)
theorem dX0_mostEfficient_74 : decode cX0_mostEfficient 74 = .ok (.goto (-58), 3) := dk_167 255 198 (dk_at dksX0_mostEfficient_3 3 rfl rfl)
theorem dX0_mostEfficient_77 : decode cX0_mostEfficient 77 = .ok (.iload_n 1, 1) := dk_27 (dk_at dksX0_mostEfficient_3 6 rfl rfl)
theorem dX0_mostEfficient_78 : decode cX0_mostEfficient 78 = .ok (.ireturn, 1) := dk_172 (dk_at dksX0_mostEfficient_3 7 rfl rfl)
abbrev cX0_failureDepth : ByteArray := prog_1_method_58_code
def yX0_failureDepth : MethodName := ⟨RX0, "failureDepth", "()I"⟩
def dkwX0_failureDepth_1 : List UInt8 := [182, 1, 107, 77, 167, 255, 244, 27, 172]
abbrev dktX0_failureDepth_1 : List UInt8 := dkwX0_failureDepth_1 ++ []
def dkwX0_failureDepth_0 : List UInt8 := [42, 182, 0, 172, 154, 0, 5, 2, 172, 3, 60, 42, 180, 0, 162, 77, 44, 198, 0, 14, 132, 1, 1, 44]
abbrev dktX0_failureDepth_0 : List UInt8 := dkwX0_failureDepth_0 ++ dktX0_failureDepth_1
theorem dksX0_failureDepth_0 : cX0_failureDepth.data.toList.drop 0 = dktX0_failureDepth_0 := by decide +kernel
theorem dksX0_failureDepth_1 : cX0_failureDepth.data.toList.drop 24 = dktX0_failureDepth_1 := dk_seg dksX0_failureDepth_0 24 rfl rfl
theorem dX0_failureDepth_0 : decode cX0_failureDepth 0 = .ok (.aload_n 0, 1) := dk_42 (dk_at dksX0_failureDepth_0 0 rfl rfl)
theorem dX0_failureDepth_1 : decode cX0_failureDepth 1 = .ok (.invokevirtual 172, 3) := dk_182 0 172 (dk_at dksX0_failureDepth_0 1 rfl rfl)
theorem dX0_failureDepth_4 : decode cX0_failureDepth 4 = .ok (.ifCond .ne 5, 3) := dk_154 0 5 (dk_at dksX0_failureDepth_0 4 rfl rfl)
theorem dX0_failureDepth_7 : decode cX0_failureDepth 7 = .ok (.iconst (-1), 1) := dk_2 (dk_at dksX0_failureDepth_0 7 rfl rfl)
theorem dX0_failureDepth_8 : decode cX0_failureDepth 8 = .ok (.ireturn, 1) := dk_172 (dk_at dksX0_failureDepth_0 8 rfl rfl)
theorem dX0_failureDepth_9 : decode cX0_failureDepth 9 = .ok (.iconst 0, 1) := dk_3 (dk_at dksX0_failureDepth_0 9 rfl rfl)
theorem dX0_failureDepth_10 : decode cX0_failureDepth 10 = .ok (.istore_n 1, 1) := dk_60 (dk_at dksX0_failureDepth_0 10 rfl rfl)
theorem dX0_failureDepth_11 : decode cX0_failureDepth 11 = .ok (.aload_n 0, 1) := dk_42 (dk_at dksX0_failureDepth_0 11 rfl rfl)
theorem dX0_failureDepth_12 : decode cX0_failureDepth 12 = .ok (.getfield 162, 3) := dk_180 0 162 (dk_at dksX0_failureDepth_0 12 rfl rfl)
theorem dX0_failureDepth_15 : decode cX0_failureDepth 15 = .ok (.astore_n 2, 1) := dk_77 (dk_at dksX0_failureDepth_0 15 rfl rfl)
theorem dX0_failureDepth_16 : decode cX0_failureDepth 16 = .ok (.aload_n 2, 1) := dk_44 (dk_at dksX0_failureDepth_0 16 rfl rfl)
theorem dX0_failureDepth_17 : decode cX0_failureDepth 17 = .ok (.ifnull 14, 3) := dk_198 0 14 (dk_at dksX0_failureDepth_0 17 rfl rfl)
theorem dX0_failureDepth_20 : decode cX0_failureDepth 20 = .ok (.iinc 1 1, 3) := dk_132 1 1 (dk_at dksX0_failureDepth_0 20 rfl rfl)
theorem dX0_failureDepth_23 : decode cX0_failureDepth 23 = .ok (.aload_n 2, 1) := dk_44 (dk_at dksX0_failureDepth_0 23 rfl rfl)
theorem dX0_failureDepth_24 : decode cX0_failureDepth 24 = .ok (.invokevirtual 363, 3) := dk_182 1 107 (dk_at dksX0_failureDepth_1 0 rfl rfl)
theorem dX0_failureDepth_27 : decode cX0_failureDepth 27 = .ok (.astore_n 2, 1) := dk_77 (dk_at dksX0_failureDepth_1 3 rfl rfl)
theorem dX0_failureDepth_28 : decode cX0_failureDepth 28 = .ok (.goto (-12), 3) := dk_167 255 244 (dk_at dksX0_failureDepth_1 4 rfl rfl)
theorem dX0_failureDepth_31 : decode cX0_failureDepth 31 = .ok (.iload_n 1, 1) := dk_27 (dk_at dksX0_failureDepth_1 7 rfl rfl)
theorem dX0_failureDepth_32 : decode cX0_failureDepth 32 = .ok (.ireturn, 1) := dk_172 (dk_at dksX0_failureDepth_1 8 rfl rfl)
abbrev cX0_failureKind : ByteArray := prog_1_method_59_code
def yX0_failureKind : MethodName := ⟨RX0, "failureKind", "(I)I"⟩
def dkwX0_failureKind_1 : List UInt8 := [167, 0, 7, 44, 182, 1, 119, 172]
abbrev dktX0_failureKind_1 : List UInt8 := dkwX0_failureKind_1 ++ []
def dkwX0_failureKind_0 : List UInt8 := [42, 182, 0, 172, 153, 0, 11, 42, 27, 182, 1, 115, 167, 0, 4, 1, 77, 44, 199, 0, 7, 2]
abbrev dktX0_failureKind_0 : List UInt8 := dkwX0_failureKind_0 ++ dktX0_failureKind_1
theorem dksX0_failureKind_0 : cX0_failureKind.data.toList.drop 0 = dktX0_failureKind_0 := by decide +kernel
theorem dksX0_failureKind_1 : cX0_failureKind.data.toList.drop 22 = dktX0_failureKind_1 := dk_seg dksX0_failureKind_0 22 rfl rfl
theorem dX0_failureKind_0 : decode cX0_failureKind 0 = .ok (.aload_n 0, 1) := dk_42 (dk_at dksX0_failureKind_0 0 rfl rfl)
theorem dX0_failureKind_1 : decode cX0_failureKind 1 = .ok (.invokevirtual 172, 3) := dk_182 0 172 (dk_at dksX0_failureKind_0 1 rfl rfl)
theorem dX0_failureKind_4 : decode cX0_failureKind 4 = .ok (.ifCond .eq 11, 3) := dk_153 0 11 (dk_at dksX0_failureKind_0 4 rfl rfl)
theorem dX0_failureKind_7 : decode cX0_failureKind 7 = .ok (.aload_n 0, 1) := dk_42 (dk_at dksX0_failureKind_0 7 rfl rfl)
theorem dX0_failureKind_8 : decode cX0_failureKind 8 = .ok (.iload_n 1, 1) := dk_27 (dk_at dksX0_failureKind_0 8 rfl rfl)
theorem dX0_failureKind_9 : decode cX0_failureKind 9 = .ok (.invokevirtual 371, 3) := dk_182 1 115 (dk_at dksX0_failureKind_0 9 rfl rfl)
theorem dX0_failureKind_12 : decode cX0_failureKind 12 = .ok (.goto 4, 3) := dk_167 0 4 (dk_at dksX0_failureKind_0 12 rfl rfl)
theorem dX0_failureKind_15 : decode cX0_failureKind 15 = .ok (.aconst_null, 1) := dk_1 (dk_at dksX0_failureKind_0 15 rfl rfl)
theorem dX0_failureKind_16 : decode cX0_failureKind 16 = .ok (.astore_n 2, 1) := dk_77 (dk_at dksX0_failureKind_0 16 rfl rfl)
theorem dX0_failureKind_17 : decode cX0_failureKind 17 = .ok (.aload_n 2, 1) := dk_44 (dk_at dksX0_failureKind_0 17 rfl rfl)
theorem dX0_failureKind_18 : decode cX0_failureKind 18 = .ok (.ifnonnull 7, 3) := dk_199 0 7 (dk_at dksX0_failureKind_0 18 rfl rfl)
theorem dX0_failureKind_21 : decode cX0_failureKind 21 = .ok (.iconst (-1), 1) := dk_2 (dk_at dksX0_failureKind_0 21 rfl rfl)
theorem dX0_failureKind_22 : decode cX0_failureKind 22 = .ok (.goto 7, 3) := dk_167 0 7 (dk_at dksX0_failureKind_1 0 rfl rfl)
theorem dX0_failureKind_25 : decode cX0_failureKind 25 = .ok (.aload_n 2, 1) := dk_44 (dk_at dksX0_failureKind_1 3 rfl rfl)
theorem dX0_failureKind_26 : decode cX0_failureKind 26 = .ok (.invokevirtual 375, 3) := dk_182 1 119 (dk_at dksX0_failureKind_1 4 rfl rfl)
theorem dX0_failureKind_29 : decode cX0_failureKind 29 = .ok (.ireturn, 1) := dk_172 (dk_at dksX0_failureKind_1 7 rfl rfl)
abbrev cX0_link : ByteArray := prog_1_method_57_code
def yX0_link : MethodName := ⟨RX0, "link", "(I)LAntennaTuner$TunerFailure;"⟩
def dkwX0_link_2 : List UInt8 := [167, 0, 4, 1, 176]
abbrev dktX0_link_2 : List UInt8 := dkwX0_link_2 ++ []
def dkwX0_link_1 : List UInt8 := [44, 182, 1, 107, 77, 132, 3, 1, 167, 255, 239, 44, 193, 1, 113, 153, 0, 12, 44, 192, 1, 113, 78, 45]
abbrev dktX0_link_1 : List UInt8 := dkwX0_link_1 ++ dktX0_link_2
def dkwX0_link_0 : List UInt8 := [27, 156, 0, 7, 1, 167, 0, 7, 42, 180, 0, 162, 77, 3, 62, 29, 27, 162, 0, 18, 44, 198, 0, 14]
abbrev dktX0_link_0 : List UInt8 := dkwX0_link_0 ++ dktX0_link_1
theorem dksX0_link_0 : cX0_link.data.toList.drop 0 = dktX0_link_0 := by decide +kernel
theorem dksX0_link_1 : cX0_link.data.toList.drop 24 = dktX0_link_1 := dk_seg dksX0_link_0 24 rfl rfl
theorem dksX0_link_2 : cX0_link.data.toList.drop 48 = dktX0_link_2 := dk_seg dksX0_link_1 24 rfl rfl
theorem dX0_link_0 : decode cX0_link 0 = .ok (.iload_n 1, 1) := dk_27 (dk_at dksX0_link_0 0 rfl rfl)
theorem dX0_link_1 : decode cX0_link 1 = .ok (.ifCond .ge 7, 3) := dk_156 0 7 (dk_at dksX0_link_0 1 rfl rfl)
theorem dX0_link_4 : decode cX0_link 4 = .ok (.aconst_null, 1) := dk_1 (dk_at dksX0_link_0 4 rfl rfl)
theorem dX0_link_5 : decode cX0_link 5 = .ok (.goto 7, 3) := dk_167 0 7 (dk_at dksX0_link_0 5 rfl rfl)
theorem dX0_link_8 : decode cX0_link 8 = .ok (.aload_n 0, 1) := dk_42 (dk_at dksX0_link_0 8 rfl rfl)
theorem dX0_link_9 : decode cX0_link 9 = .ok (.getfield 162, 3) := dk_180 0 162 (dk_at dksX0_link_0 9 rfl rfl)
theorem dX0_link_12 : decode cX0_link 12 = .ok (.astore_n 2, 1) := dk_77 (dk_at dksX0_link_0 12 rfl rfl)
theorem dX0_link_13 : decode cX0_link 13 = .ok (.iconst 0, 1) := dk_3 (dk_at dksX0_link_0 13 rfl rfl)
theorem dX0_link_14 : decode cX0_link 14 = .ok (.istore_n 3, 1) := dk_62 (dk_at dksX0_link_0 14 rfl rfl)
theorem dX0_link_15 : decode cX0_link 15 = .ok (.iload_n 3, 1) := dk_29 (dk_at dksX0_link_0 15 rfl rfl)
theorem dX0_link_16 : decode cX0_link 16 = .ok (.iload_n 1, 1) := dk_27 (dk_at dksX0_link_0 16 rfl rfl)
theorem dX0_link_17 : decode cX0_link 17 = .ok (.if_icmp .ge 18, 3) := dk_162 0 18 (dk_at dksX0_link_0 17 rfl rfl)
theorem dX0_link_20 : decode cX0_link 20 = .ok (.aload_n 2, 1) := dk_44 (dk_at dksX0_link_0 20 rfl rfl)
theorem dX0_link_21 : decode cX0_link 21 = .ok (.ifnull 14, 3) := dk_198 0 14 (dk_at dksX0_link_0 21 rfl rfl)
theorem dX0_link_24 : decode cX0_link 24 = .ok (.aload_n 2, 1) := dk_44 (dk_at dksX0_link_1 0 rfl rfl)
theorem dX0_link_25 : decode cX0_link 25 = .ok (.invokevirtual 363, 3) := dk_182 1 107 (dk_at dksX0_link_1 1 rfl rfl)
theorem dX0_link_28 : decode cX0_link 28 = .ok (.astore_n 2, 1) := dk_77 (dk_at dksX0_link_1 4 rfl rfl)
theorem dX0_link_29 : decode cX0_link 29 = .ok (.iinc 3 1, 3) := dk_132 3 1 (dk_at dksX0_link_1 5 rfl rfl)
theorem dX0_link_32 : decode cX0_link 32 = .ok (.goto (-17), 3) := dk_167 255 239 (dk_at dksX0_link_1 8 rfl rfl)
theorem dX0_link_35 : decode cX0_link 35 = .ok (.aload_n 2, 1) := dk_44 (dk_at dksX0_link_1 11 rfl rfl)
theorem dX0_link_36 : decode cX0_link 36 = .ok (.instanceof 369, 3) := dk_193 1 113 (dk_at dksX0_link_1 12 rfl rfl)
theorem dX0_link_39 : decode cX0_link 39 = .ok (.ifCond .eq 12, 3) := dk_153 0 12 (dk_at dksX0_link_1 15 rfl rfl)
theorem dX0_link_42 : decode cX0_link 42 = .ok (.aload_n 2, 1) := dk_44 (dk_at dksX0_link_1 18 rfl rfl)
theorem dX0_link_43 : decode cX0_link 43 = .ok (.checkcast 369, 3) := dk_192 1 113 (dk_at dksX0_link_1 19 rfl rfl)
theorem dX0_link_46 : decode cX0_link 46 = .ok (.astore_n 3, 1) := dk_78 (dk_at dksX0_link_1 22 rfl rfl)
theorem dX0_link_47 : decode cX0_link 47 = .ok (.aload_n 3, 1) := dk_45 (dk_at dksX0_link_1 23 rfl rfl)
theorem dX0_link_48 : decode cX0_link 48 = .ok (.goto 4, 3) := dk_167 0 4 (dk_at dksX0_link_2 0 rfl rfl)
theorem dX0_link_51 : decode cX0_link 51 = .ok (.aconst_null, 1) := dk_1 (dk_at dksX0_link_2 3 rfl rfl)
theorem dX0_link_52 : decode cX0_link 52 = .ok (.areturn, 1) := dk_176 (dk_at dksX0_link_2 4 rfl rfl)
abbrev cX0_failureValue : ByteArray := prog_1_method_60_code
def yX0_failureValue : MethodName := ⟨RX0, "failureValue", "(I)I"⟩
def dkwX0_failureValue_1 : List UInt8 := [167, 0, 7, 44, 180, 1, 122, 172]
abbrev dktX0_failureValue_1 : List UInt8 := dkwX0_failureValue_1 ++ []
def dkwX0_failureValue_0 : List UInt8 := [42, 182, 0, 172, 153, 0, 11, 42, 27, 182, 1, 115, 167, 0, 4, 1, 77, 44, 199, 0, 7, 2]
abbrev dktX0_failureValue_0 : List UInt8 := dkwX0_failureValue_0 ++ dktX0_failureValue_1
theorem dksX0_failureValue_0 : cX0_failureValue.data.toList.drop 0 = dktX0_failureValue_0 := by decide +kernel
theorem dksX0_failureValue_1 : cX0_failureValue.data.toList.drop 22 = dktX0_failureValue_1 := dk_seg dksX0_failureValue_0 22 rfl rfl
theorem dX0_failureValue_0 : decode cX0_failureValue 0 = .ok (.aload_n 0, 1) := dk_42 (dk_at dksX0_failureValue_0 0 rfl rfl)
theorem dX0_failureValue_1 : decode cX0_failureValue 1 = .ok (.invokevirtual 172, 3) := dk_182 0 172 (dk_at dksX0_failureValue_0 1 rfl rfl)
theorem dX0_failureValue_4 : decode cX0_failureValue 4 = .ok (.ifCond .eq 11, 3) := dk_153 0 11 (dk_at dksX0_failureValue_0 4 rfl rfl)
theorem dX0_failureValue_7 : decode cX0_failureValue 7 = .ok (.aload_n 0, 1) := dk_42 (dk_at dksX0_failureValue_0 7 rfl rfl)
theorem dX0_failureValue_8 : decode cX0_failureValue 8 = .ok (.iload_n 1, 1) := dk_27 (dk_at dksX0_failureValue_0 8 rfl rfl)
theorem dX0_failureValue_9 : decode cX0_failureValue 9 = .ok (.invokevirtual 371, 3) := dk_182 1 115 (dk_at dksX0_failureValue_0 9 rfl rfl)
theorem dX0_failureValue_12 : decode cX0_failureValue 12 = .ok (.goto 4, 3) := dk_167 0 4 (dk_at dksX0_failureValue_0 12 rfl rfl)
theorem dX0_failureValue_15 : decode cX0_failureValue 15 = .ok (.aconst_null, 1) := dk_1 (dk_at dksX0_failureValue_0 15 rfl rfl)
theorem dX0_failureValue_16 : decode cX0_failureValue 16 = .ok (.astore_n 2, 1) := dk_77 (dk_at dksX0_failureValue_0 16 rfl rfl)
theorem dX0_failureValue_17 : decode cX0_failureValue 17 = .ok (.aload_n 2, 1) := dk_44 (dk_at dksX0_failureValue_0 17 rfl rfl)
theorem dX0_failureValue_18 : decode cX0_failureValue 18 = .ok (.ifnonnull 7, 3) := dk_199 0 7 (dk_at dksX0_failureValue_0 18 rfl rfl)
theorem dX0_failureValue_21 : decode cX0_failureValue 21 = .ok (.iconst (-1), 1) := dk_2 (dk_at dksX0_failureValue_0 21 rfl rfl)
theorem dX0_failureValue_22 : decode cX0_failureValue 22 = .ok (.goto 7, 3) := dk_167 0 7 (dk_at dksX0_failureValue_1 0 rfl rfl)
theorem dX0_failureValue_25 : decode cX0_failureValue 25 = .ok (.aload_n 2, 1) := dk_44 (dk_at dksX0_failureValue_1 3 rfl rfl)
theorem dX0_failureValue_26 : decode cX0_failureValue 26 = .ok (.getfield 378, 3) := dk_180 1 122 (dk_at dksX0_failureValue_1 4 rfl rfl)
theorem dX0_failureValue_29 : decode cX0_failureValue 29 = .ok (.ireturn, 1) := dk_172 (dk_at dksX0_failureValue_1 7 rfl rfl)
abbrev cX0_store : ByteArray := prog_1_method_65_code
def yX0_store : MethodName := ⟨RX0, "store", "()I"⟩
def dkwX0_store_6 : List UInt8 := [182, 1, 145, 87, 167, 0, 15, 42, 180, 0, 114, 180, 1, 85, 27, 45, 182, 1, 148, 27, 172]
abbrev dktX0_store_6 : List UInt8 := dkwX0_store_6 ++ []
def dkwX0_store_5 : List UInt8 := [182, 0, 250, 182, 0, 254, 183, 1, 144, 78, 28, 153, 0, 19, 42, 180, 0, 114, 180, 1, 85, 27, 45]
abbrev dktX0_store_5 : List UInt8 := dkwX0_store_5 ++ dktX0_store_6
def dkwX0_store_4 : List UInt8 := [182, 0, 193, 187, 1, 98, 89, 42, 180, 0, 114, 180, 0, 196, 42, 180, 0, 114, 180, 0, 202, 42]
abbrev dktX0_store_4 : List UInt8 := dkwX0_store_4 ++ dktX0_store_5
def dkwX0_store_3 : List UInt8 := [154, 0, 21, 42, 180, 0, 114, 180, 1, 85, 182, 1, 129, 16, 16, 160, 0, 6, 16, 254, 172, 42]
abbrev dktX0_store_3 : List UInt8 := dkwX0_store_3 ++ dktX0_store_4
def dkwX0_store_2 : List UInt8 := [192, 1, 98, 180, 1, 125, 42, 180, 0, 114, 180, 0, 196, 160, 0, 7, 4, 167, 0, 4, 3, 61, 28]
abbrev dktX0_store_2 : List UInt8 := dkwX0_store_2 ++ dktX0_store_3
def dkwX0_store_1 : List UInt8 := [180, 0, 114, 180, 1, 85, 182, 1, 129, 162, 0, 34, 42, 180, 0, 114, 180, 1, 85, 27, 182, 1, 92]
abbrev dktX0_store_1 : List UInt8 := dkwX0_store_1 ++ dktX0_store_2
def dkwX0_store_0 : List UInt8 := [42, 182, 0, 172, 154, 0, 5, 2, 172, 42, 42, 180, 0, 114, 180, 0, 196, 182, 1, 141, 60, 27, 42]
abbrev dktX0_store_0 : List UInt8 := dkwX0_store_0 ++ dktX0_store_1
theorem dksX0_store_0 : cX0_store.data.toList.drop 0 = dktX0_store_0 := by decide +kernel
theorem dksX0_store_1 : cX0_store.data.toList.drop 23 = dktX0_store_1 := dk_seg dksX0_store_0 23 rfl rfl
theorem dksX0_store_2 : cX0_store.data.toList.drop 46 = dktX0_store_2 := dk_seg dksX0_store_1 23 rfl rfl
theorem dksX0_store_3 : cX0_store.data.toList.drop 69 = dktX0_store_3 := dk_seg dksX0_store_2 23 rfl rfl
theorem dksX0_store_4 : cX0_store.data.toList.drop 91 = dktX0_store_4 := dk_seg dksX0_store_3 22 rfl rfl
theorem dksX0_store_5 : cX0_store.data.toList.drop 113 = dktX0_store_5 := dk_seg dksX0_store_4 22 rfl rfl
theorem dksX0_store_6 : cX0_store.data.toList.drop 136 = dktX0_store_6 := dk_seg dksX0_store_5 23 rfl rfl
theorem dX0_store_0 : decode cX0_store 0 = .ok (.aload_n 0, 1) := dk_42 (dk_at dksX0_store_0 0 rfl rfl)
theorem dX0_store_1 : decode cX0_store 1 = .ok (.invokevirtual 172, 3) := dk_182 0 172 (dk_at dksX0_store_0 1 rfl rfl)
theorem dX0_store_4 : decode cX0_store 4 = .ok (.ifCond .ne 5, 3) := dk_154 0 5 (dk_at dksX0_store_0 4 rfl rfl)
theorem dX0_store_7 : decode cX0_store 7 = .ok (.iconst (-1), 1) := dk_2 (dk_at dksX0_store_0 7 rfl rfl)
theorem dX0_store_8 : decode cX0_store 8 = .ok (.ireturn, 1) := dk_172 (dk_at dksX0_store_0 8 rfl rfl)
theorem dX0_store_9 : decode cX0_store 9 = .ok (.aload_n 0, 1) := dk_42 (dk_at dksX0_store_0 9 rfl rfl)
theorem dX0_store_10 : decode cX0_store 10 = .ok (.aload_n 0, 1) := dk_42 (dk_at dksX0_store_0 10 rfl rfl)
theorem dX0_store_11 : decode cX0_store 11 = .ok (.getfield 114, 3) := dk_180 0 114 (dk_at dksX0_store_0 11 rfl rfl)
theorem dX0_store_14 : decode cX0_store 14 = .ok (.getfield 196, 3) := dk_180 0 196 (dk_at dksX0_store_0 14 rfl rfl)
theorem dX0_store_17 : decode cX0_store 17 = .ok (.invokevirtual 397, 3) := dk_182 1 141 (dk_at dksX0_store_0 17 rfl rfl)
theorem dX0_store_20 : decode cX0_store 20 = .ok (.istore_n 1, 1) := dk_60 (dk_at dksX0_store_0 20 rfl rfl)
theorem dX0_store_21 : decode cX0_store 21 = .ok (.iload_n 1, 1) := dk_27 (dk_at dksX0_store_0 21 rfl rfl)
theorem dX0_store_22 : decode cX0_store 22 = .ok (.aload_n 0, 1) := dk_42 (dk_at dksX0_store_0 22 rfl rfl)
theorem dX0_store_23 : decode cX0_store 23 = .ok (.getfield 114, 3) := dk_180 0 114 (dk_at dksX0_store_1 0 rfl rfl)
theorem dX0_store_26 : decode cX0_store 26 = .ok (.getfield 341, 3) := dk_180 1 85 (dk_at dksX0_store_1 3 rfl rfl)
theorem dX0_store_29 : decode cX0_store 29 = .ok (.invokevirtual 385, 3) := dk_182 1 129 (dk_at dksX0_store_1 6 rfl rfl)
theorem dX0_store_32 : decode cX0_store 32 = .ok (.if_icmp .ge 34, 3) := dk_162 0 34 (dk_at dksX0_store_1 9 rfl rfl)
theorem dX0_store_35 : decode cX0_store 35 = .ok (.aload_n 0, 1) := dk_42 (dk_at dksX0_store_1 12 rfl rfl)
theorem dX0_store_36 : decode cX0_store 36 = .ok (.getfield 114, 3) := dk_180 0 114 (dk_at dksX0_store_1 13 rfl rfl)
theorem dX0_store_39 : decode cX0_store 39 = .ok (.getfield 341, 3) := dk_180 1 85 (dk_at dksX0_store_1 16 rfl rfl)
theorem dX0_store_42 : decode cX0_store 42 = .ok (.iload_n 1, 1) := dk_27 (dk_at dksX0_store_1 19 rfl rfl)
theorem dX0_store_43 : decode cX0_store 43 = .ok (.invokevirtual 348, 3) := dk_182 1 92 (dk_at dksX0_store_1 20 rfl rfl)
theorem dX0_store_46 : decode cX0_store 46 = .ok (.checkcast 354, 3) := dk_192 1 98 (dk_at dksX0_store_2 0 rfl rfl)
theorem dX0_store_49 : decode cX0_store 49 = .ok (.getfield 381, 3) := dk_180 1 125 (dk_at dksX0_store_2 3 rfl rfl)
theorem dX0_store_52 : decode cX0_store 52 = .ok (.aload_n 0, 1) := dk_42 (dk_at dksX0_store_2 6 rfl rfl)
theorem dX0_store_53 : decode cX0_store 53 = .ok (.getfield 114, 3) := dk_180 0 114 (dk_at dksX0_store_2 7 rfl rfl)
theorem dX0_store_56 : decode cX0_store 56 = .ok (.getfield 196, 3) := dk_180 0 196 (dk_at dksX0_store_2 10 rfl rfl)
theorem dX0_store_59 : decode cX0_store 59 = .ok (.if_icmp .ne 7, 3) := dk_160 0 7 (dk_at dksX0_store_2 13 rfl rfl)
theorem dX0_store_62 : decode cX0_store 62 = .ok (.iconst 1, 1) := dk_4 (dk_at dksX0_store_2 16 rfl rfl)
theorem dX0_store_63 : decode cX0_store 63 = .ok (.goto 4, 3) := dk_167 0 4 (dk_at dksX0_store_2 17 rfl rfl)
theorem dX0_store_66 : decode cX0_store 66 = .ok (.iconst 0, 1) := dk_3 (dk_at dksX0_store_2 20 rfl rfl)
theorem dX0_store_67 : decode cX0_store 67 = .ok (.istore_n 2, 1) := dk_61 (dk_at dksX0_store_2 21 rfl rfl)
theorem dX0_store_68 : decode cX0_store 68 = .ok (.iload_n 2, 1) := dk_28 (dk_at dksX0_store_2 22 rfl rfl)
theorem dX0_store_69 : decode cX0_store 69 = .ok (.ifCond .ne 21, 3) := dk_154 0 21 (dk_at dksX0_store_3 0 rfl rfl)
theorem dX0_store_72 : decode cX0_store 72 = .ok (.aload_n 0, 1) := dk_42 (dk_at dksX0_store_3 3 rfl rfl)
theorem dX0_store_73 : decode cX0_store 73 = .ok (.getfield 114, 3) := dk_180 0 114 (dk_at dksX0_store_3 4 rfl rfl)
theorem dX0_store_76 : decode cX0_store 76 = .ok (.getfield 341, 3) := dk_180 1 85 (dk_at dksX0_store_3 7 rfl rfl)
theorem dX0_store_79 : decode cX0_store 79 = .ok (.invokevirtual 385, 3) := dk_182 1 129 (dk_at dksX0_store_3 10 rfl rfl)
theorem dX0_store_82 : decode cX0_store 82 = .ok (.bipush 16, 2) := dk_16 16 (dk_at dksX0_store_3 13 rfl rfl)
theorem dX0_store_84 : decode cX0_store 84 = .ok (.if_icmp .ne 6, 3) := dk_160 0 6 (dk_at dksX0_store_3 15 rfl rfl)
theorem dX0_store_87 : decode cX0_store 87 = .ok (.bipush (-2), 2) := dk_16 254 (dk_at dksX0_store_3 18 rfl rfl)
theorem dX0_store_89 : decode cX0_store 89 = .ok (.ireturn, 1) := dk_172 (dk_at dksX0_store_3 20 rfl rfl)
theorem dX0_store_90 : decode cX0_store 90 = .ok (.aload_n 0, 1) := dk_42 (dk_at dksX0_store_3 21 rfl rfl)
theorem dX0_store_91 : decode cX0_store 91 = .ok (.invokevirtual 193, 3) := dk_182 0 193 (dk_at dksX0_store_4 0 rfl rfl)
theorem dX0_store_94 : decode cX0_store 94 = .ok (.new 354, 3) := dk_187 1 98 (dk_at dksX0_store_4 3 rfl rfl)
theorem dX0_store_97 : decode cX0_store 97 = .ok (.dup, 1) := dk_89 (dk_at dksX0_store_4 6 rfl rfl)
theorem dX0_store_98 : decode cX0_store 98 = .ok (.aload_n 0, 1) := dk_42 (dk_at dksX0_store_4 7 rfl rfl)
theorem dX0_store_99 : decode cX0_store 99 = .ok (.getfield 114, 3) := dk_180 0 114 (dk_at dksX0_store_4 8 rfl rfl)
theorem dX0_store_102 : decode cX0_store 102 = .ok (.getfield 196, 3) := dk_180 0 196 (dk_at dksX0_store_4 11 rfl rfl)
theorem dX0_store_105 : decode cX0_store 105 = .ok (.aload_n 0, 1) := dk_42 (dk_at dksX0_store_4 14 rfl rfl)
theorem dX0_store_106 : decode cX0_store 106 = .ok (.getfield 114, 3) := dk_180 0 114 (dk_at dksX0_store_4 15 rfl rfl)
theorem dX0_store_109 : decode cX0_store 109 = .ok (.getfield 202, 3) := dk_180 0 202 (dk_at dksX0_store_4 18 rfl rfl)
theorem dX0_store_112 : decode cX0_store 112 = .ok (.aload_n 0, 1) := dk_42 (dk_at dksX0_store_4 21 rfl rfl)
theorem dX0_store_113 : decode cX0_store 113 = .ok (.invokevirtual 250, 3) := dk_182 0 250 (dk_at dksX0_store_5 0 rfl rfl)
theorem dX0_store_116 : decode cX0_store 116 = .ok (.invokevirtual 254, 3) := dk_182 0 254 (dk_at dksX0_store_5 3 rfl rfl)
theorem dX0_store_119 : decode cX0_store 119 = .ok (.invokespecial 400, 3) := dk_183 1 144 (dk_at dksX0_store_5 6 rfl rfl)
theorem dX0_store_122 : decode cX0_store 122 = .ok (.astore_n 3, 1) := dk_78 (dk_at dksX0_store_5 9 rfl rfl)
theorem dX0_store_123 : decode cX0_store 123 = .ok (.iload_n 2, 1) := dk_28 (dk_at dksX0_store_5 10 rfl rfl)
theorem dX0_store_124 : decode cX0_store 124 = .ok (.ifCond .eq 19, 3) := dk_153 0 19 (dk_at dksX0_store_5 11 rfl rfl)
theorem dX0_store_127 : decode cX0_store 127 = .ok (.aload_n 0, 1) := dk_42 (dk_at dksX0_store_5 14 rfl rfl)
theorem dX0_store_128 : decode cX0_store 128 = .ok (.getfield 114, 3) := dk_180 0 114 (dk_at dksX0_store_5 15 rfl rfl)
theorem dX0_store_131 : decode cX0_store 131 = .ok (.getfield 341, 3) := dk_180 1 85 (dk_at dksX0_store_5 18 rfl rfl)
theorem dX0_store_134 : decode cX0_store 134 = .ok (.iload_n 1, 1) := dk_27 (dk_at dksX0_store_5 21 rfl rfl)
theorem dX0_store_135 : decode cX0_store 135 = .ok (.aload_n 3, 1) := dk_45 (dk_at dksX0_store_5 22 rfl rfl)
theorem dX0_store_136 : decode cX0_store 136 = .ok (.invokevirtual 401, 3) := dk_182 1 145 (dk_at dksX0_store_6 0 rfl rfl)
theorem dX0_store_139 : decode cX0_store 139 = .ok (.pop, 1) := dk_87 (dk_at dksX0_store_6 3 rfl rfl)
theorem dX0_store_140 : decode cX0_store 140 = .ok (.goto 15, 3) := dk_167 0 15 (dk_at dksX0_store_6 4 rfl rfl)
theorem dX0_store_143 : decode cX0_store 143 = .ok (.aload_n 0, 1) := dk_42 (dk_at dksX0_store_6 7 rfl rfl)
theorem dX0_store_144 : decode cX0_store 144 = .ok (.getfield 114, 3) := dk_180 0 114 (dk_at dksX0_store_6 8 rfl rfl)
theorem dX0_store_147 : decode cX0_store 147 = .ok (.getfield 341, 3) := dk_180 1 85 (dk_at dksX0_store_6 11 rfl rfl)
theorem dX0_store_150 : decode cX0_store 150 = .ok (.iload_n 1, 1) := dk_27 (dk_at dksX0_store_6 14 rfl rfl)
theorem dX0_store_151 : decode cX0_store 151 = .ok (.aload_n 3, 1) := dk_45 (dk_at dksX0_store_6 15 rfl rfl)
theorem dX0_store_152 : decode cX0_store 152 = .ok (.invokevirtual 404, 3) := dk_182 1 148 (dk_at dksX0_store_6 16 rfl rfl)
theorem dX0_store_155 : decode cX0_store 155 = .ok (.iload_n 1, 1) := dk_27 (dk_at dksX0_store_6 19 rfl rfl)
theorem dX0_store_156 : decode cX0_store 156 = .ok (.ireturn, 1) := dk_172 (dk_at dksX0_store_6 20 rfl rfl)
abbrev cX0_placeOf : ByteArray := prog_1_method_64_code
def yX0_placeOf : MethodName := ⟨RX0, "placeOf", "(I)I"⟩
def dkwX0_placeOf_1 : List UInt8 := [182, 1, 92, 192, 1, 98, 180, 1, 125, 27, 162, 0, 9, 132, 2, 1, 167, 255, 218, 28, 172]
abbrev dktX0_placeOf_1 : List UInt8 := dkwX0_placeOf_1 ++ []
def dkwX0_placeOf_0 : List UInt8 := [3, 61, 28, 42, 180, 0, 114, 180, 1, 85, 182, 1, 129, 162, 0, 30, 42, 180, 0, 114, 180, 1, 85, 28]
abbrev dktX0_placeOf_0 : List UInt8 := dkwX0_placeOf_0 ++ dktX0_placeOf_1
theorem dksX0_placeOf_0 : cX0_placeOf.data.toList.drop 0 = dktX0_placeOf_0 := by decide +kernel
theorem dksX0_placeOf_1 : cX0_placeOf.data.toList.drop 24 = dktX0_placeOf_1 := dk_seg dksX0_placeOf_0 24 rfl rfl
theorem dX0_placeOf_0 : decode cX0_placeOf 0 = .ok (.iconst 0, 1) := dk_3 (dk_at dksX0_placeOf_0 0 rfl rfl)
theorem dX0_placeOf_1 : decode cX0_placeOf 1 = .ok (.istore_n 2, 1) := dk_61 (dk_at dksX0_placeOf_0 1 rfl rfl)
theorem dX0_placeOf_2 : decode cX0_placeOf 2 = .ok (.iload_n 2, 1) := dk_28 (dk_at dksX0_placeOf_0 2 rfl rfl)
theorem dX0_placeOf_3 : decode cX0_placeOf 3 = .ok (.aload_n 0, 1) := dk_42 (dk_at dksX0_placeOf_0 3 rfl rfl)
theorem dX0_placeOf_4 : decode cX0_placeOf 4 = .ok (.getfield 114, 3) := dk_180 0 114 (dk_at dksX0_placeOf_0 4 rfl rfl)
theorem dX0_placeOf_7 : decode cX0_placeOf 7 = .ok (.getfield 341, 3) := dk_180 1 85 (dk_at dksX0_placeOf_0 7 rfl rfl)
theorem dX0_placeOf_10 : decode cX0_placeOf 10 = .ok (.invokevirtual 385, 3) := dk_182 1 129 (dk_at dksX0_placeOf_0 10 rfl rfl)
theorem dX0_placeOf_13 : decode cX0_placeOf 13 = .ok (.if_icmp .ge 30, 3) := dk_162 0 30 (dk_at dksX0_placeOf_0 13 rfl rfl)
theorem dX0_placeOf_16 : decode cX0_placeOf 16 = .ok (.aload_n 0, 1) := dk_42 (dk_at dksX0_placeOf_0 16 rfl rfl)
theorem dX0_placeOf_17 : decode cX0_placeOf 17 = .ok (.getfield 114, 3) := dk_180 0 114 (dk_at dksX0_placeOf_0 17 rfl rfl)
theorem dX0_placeOf_20 : decode cX0_placeOf 20 = .ok (.getfield 341, 3) := dk_180 1 85 (dk_at dksX0_placeOf_0 20 rfl rfl)
theorem dX0_placeOf_23 : decode cX0_placeOf 23 = .ok (.iload_n 2, 1) := dk_28 (dk_at dksX0_placeOf_0 23 rfl rfl)
theorem dX0_placeOf_24 : decode cX0_placeOf 24 = .ok (.invokevirtual 348, 3) := dk_182 1 92 (dk_at dksX0_placeOf_1 0 rfl rfl)
theorem dX0_placeOf_27 : decode cX0_placeOf 27 = .ok (.checkcast 354, 3) := dk_192 1 98 (dk_at dksX0_placeOf_1 3 rfl rfl)
theorem dX0_placeOf_30 : decode cX0_placeOf 30 = .ok (.getfield 381, 3) := dk_180 1 125 (dk_at dksX0_placeOf_1 6 rfl rfl)
theorem dX0_placeOf_33 : decode cX0_placeOf 33 = .ok (.iload_n 1, 1) := dk_27 (dk_at dksX0_placeOf_1 9 rfl rfl)
theorem dX0_placeOf_34 : decode cX0_placeOf 34 = .ok (.if_icmp .ge 9, 3) := dk_162 0 9 (dk_at dksX0_placeOf_1 10 rfl rfl)
theorem dX0_placeOf_37 : decode cX0_placeOf 37 = .ok (.iinc 2 1, 3) := dk_132 2 1 (dk_at dksX0_placeOf_1 13 rfl rfl)
theorem dX0_placeOf_40 : decode cX0_placeOf 40 = .ok (.goto (-38), 3) := dk_167 255 218 (dk_at dksX0_placeOf_1 16 rfl rfl)
theorem dX0_placeOf_43 : decode cX0_placeOf 43 = .ok (.iload_n 2, 1) := dk_28 (dk_at dksX0_placeOf_1 19 rfl rfl)
theorem dX0_placeOf_44 : decode cX0_placeOf 44 = .ok (.ireturn, 1) := dk_172 (dk_at dksX0_placeOf_1 20 rfl rfl)
abbrev cX0_recall : ByteArray := prog_1_method_66_code
def yX0_recall : MethodName := ⟨RX0, "recall", "()I"⟩
def dkwX0_recall_2 : List UInt8 := [180, 1, 100, 184, 0, 205, 182, 0, 228, 27, 172]
abbrev dktX0_recall_2 : List UInt8 := dkwX0_recall_2 ++ []
def dkwX0_recall_1 : List UInt8 := [16, 254, 172, 42, 1, 181, 0, 162, 42, 42, 180, 0, 114, 180, 1, 85, 27, 182, 1, 92, 192, 1, 98]
abbrev dktX0_recall_1 : List UInt8 := dkwX0_recall_1 ++ dktX0_recall_2
def dkwX0_recall_0 : List UInt8 := [42, 182, 0, 172, 154, 0, 5, 2, 172, 42, 182, 1, 89, 60, 167, 0, 12, 77, 42, 44, 181, 0, 162]
abbrev dktX0_recall_0 : List UInt8 := dkwX0_recall_0 ++ dktX0_recall_1
theorem dksX0_recall_0 : cX0_recall.data.toList.drop 0 = dktX0_recall_0 := by decide +kernel
theorem dksX0_recall_1 : cX0_recall.data.toList.drop 23 = dktX0_recall_1 := dk_seg dksX0_recall_0 23 rfl rfl
theorem dksX0_recall_2 : cX0_recall.data.toList.drop 46 = dktX0_recall_2 := dk_seg dksX0_recall_1 23 rfl rfl
theorem dX0_recall_0 : decode cX0_recall 0 = .ok (.aload_n 0, 1) := dk_42 (dk_at dksX0_recall_0 0 rfl rfl)
theorem dX0_recall_1 : decode cX0_recall 1 = .ok (.invokevirtual 172, 3) := dk_182 0 172 (dk_at dksX0_recall_0 1 rfl rfl)
theorem dX0_recall_4 : decode cX0_recall 4 = .ok (.ifCond .ne 5, 3) := dk_154 0 5 (dk_at dksX0_recall_0 4 rfl rfl)
theorem dX0_recall_7 : decode cX0_recall 7 = .ok (.iconst (-1), 1) := dk_2 (dk_at dksX0_recall_0 7 rfl rfl)
theorem dX0_recall_8 : decode cX0_recall 8 = .ok (.ireturn, 1) := dk_172 (dk_at dksX0_recall_0 8 rfl rfl)
theorem dX0_recall_9 : decode cX0_recall 9 = .ok (.aload_n 0, 1) := dk_42 (dk_at dksX0_recall_0 9 rfl rfl)
theorem dX0_recall_10 : decode cX0_recall 10 = .ok (.invokevirtual 345, 3) := dk_182 1 89 (dk_at dksX0_recall_0 10 rfl rfl)
theorem dX0_recall_13 : decode cX0_recall 13 = .ok (.istore_n 1, 1) := dk_60 (dk_at dksX0_recall_0 13 rfl rfl)
theorem dX0_recall_14 : decode cX0_recall 14 = .ok (.goto 12, 3) := dk_167 0 12 (dk_at dksX0_recall_0 14 rfl rfl)
theorem dX0_recall_17 : decode cX0_recall 17 = .ok (.astore_n 2, 1) := dk_77 (dk_at dksX0_recall_0 17 rfl rfl)
theorem dX0_recall_18 : decode cX0_recall 18 = .ok (.aload_n 0, 1) := dk_42 (dk_at dksX0_recall_0 18 rfl rfl)
theorem dX0_recall_19 : decode cX0_recall 19 = .ok (.aload_n 2, 1) := dk_44 (dk_at dksX0_recall_0 19 rfl rfl)
theorem dX0_recall_20 : decode cX0_recall 20 = .ok (.putfield 162, 3) := dk_181 0 162 (dk_at dksX0_recall_0 20 rfl rfl)
theorem dX0_recall_23 : decode cX0_recall 23 = .ok (.bipush (-2), 2) := dk_16 254 (dk_at dksX0_recall_1 0 rfl rfl)
theorem dX0_recall_25 : decode cX0_recall 25 = .ok (.ireturn, 1) := dk_172 (dk_at dksX0_recall_1 2 rfl rfl)
theorem dX0_recall_26 : decode cX0_recall 26 = .ok (.aload_n 0, 1) := dk_42 (dk_at dksX0_recall_1 3 rfl rfl)
theorem dX0_recall_27 : decode cX0_recall 27 = .ok (.aconst_null, 1) := dk_1 (dk_at dksX0_recall_1 4 rfl rfl)
theorem dX0_recall_28 : decode cX0_recall 28 = .ok (.putfield 162, 3) := dk_181 0 162 (dk_at dksX0_recall_1 5 rfl rfl)
theorem dX0_recall_31 : decode cX0_recall 31 = .ok (.aload_n 0, 1) := dk_42 (dk_at dksX0_recall_1 8 rfl rfl)
theorem dX0_recall_32 : decode cX0_recall 32 = .ok (.aload_n 0, 1) := dk_42 (dk_at dksX0_recall_1 9 rfl rfl)
theorem dX0_recall_33 : decode cX0_recall 33 = .ok (.getfield 114, 3) := dk_180 0 114 (dk_at dksX0_recall_1 10 rfl rfl)
theorem dX0_recall_36 : decode cX0_recall 36 = .ok (.getfield 341, 3) := dk_180 1 85 (dk_at dksX0_recall_1 13 rfl rfl)
theorem dX0_recall_39 : decode cX0_recall 39 = .ok (.iload_n 1, 1) := dk_27 (dk_at dksX0_recall_1 16 rfl rfl)
theorem dX0_recall_40 : decode cX0_recall 40 = .ok (.invokevirtual 348, 3) := dk_182 1 92 (dk_at dksX0_recall_1 17 rfl rfl)
theorem dX0_recall_43 : decode cX0_recall 43 = .ok (.checkcast 354, 3) := dk_192 1 98 (dk_at dksX0_recall_1 20 rfl rfl)
theorem dX0_recall_46 : decode cX0_recall 46 = .ok (.getfield 356, 3) := dk_180 1 100 (dk_at dksX0_recall_2 0 rfl rfl)
theorem dX0_recall_49 : decode cX0_recall 49 = .ok (.invokestatic 205, 3) := dk_184 0 205 (dk_at dksX0_recall_2 3 rfl rfl)
theorem dX0_recall_52 : decode cX0_recall 52 = .ok (.invokevirtual 228, 3) := dk_182 0 228 (dk_at dksX0_recall_2 6 rfl rfl)
theorem dX0_recall_55 : decode cX0_recall 55 = .ok (.iload_n 1, 1) := dk_27 (dk_at dksX0_recall_2 9 rfl rfl)
theorem dX0_recall_56 : decode cX0_recall 56 = .ok (.ireturn, 1) := dk_172 (dk_at dksX0_recall_2 10 rfl rfl)
abbrev cX0_forget : ByteArray := prog_1_method_68_code
def yX0_forget : MethodName := ⟨RX0, "forget", "(I)I"⟩
def dkwX0_forget_1 : List UInt8 := [182, 1, 155, 87, 42, 180, 0, 114, 180, 1, 85, 182, 1, 129, 172]
abbrev dktX0_forget_1 : List UInt8 := dkwX0_forget_1 ++ []
def dkwX0_forget_0 : List UInt8 := [42, 27, 182, 1, 152, 154, 0, 5, 2, 172, 42, 182, 0, 193, 42, 180, 0, 114, 180, 1, 85, 27]
abbrev dktX0_forget_0 : List UInt8 := dkwX0_forget_0 ++ dktX0_forget_1
theorem dksX0_forget_0 : cX0_forget.data.toList.drop 0 = dktX0_forget_0 := by decide +kernel
theorem dksX0_forget_1 : cX0_forget.data.toList.drop 22 = dktX0_forget_1 := dk_seg dksX0_forget_0 22 rfl rfl
theorem dX0_forget_0 : decode cX0_forget 0 = .ok (.aload_n 0, 1) := dk_42 (dk_at dksX0_forget_0 0 rfl rfl)
theorem dX0_forget_1 : decode cX0_forget 1 = .ok (.iload_n 1, 1) := dk_27 (dk_at dksX0_forget_0 1 rfl rfl)
theorem dX0_forget_2 : decode cX0_forget 2 = .ok (.invokevirtual 408, 3) := dk_182 1 152 (dk_at dksX0_forget_0 2 rfl rfl)
theorem dX0_forget_5 : decode cX0_forget 5 = .ok (.ifCond .ne 5, 3) := dk_154 0 5 (dk_at dksX0_forget_0 5 rfl rfl)
theorem dX0_forget_8 : decode cX0_forget 8 = .ok (.iconst (-1), 1) := dk_2 (dk_at dksX0_forget_0 8 rfl rfl)
theorem dX0_forget_9 : decode cX0_forget 9 = .ok (.ireturn, 1) := dk_172 (dk_at dksX0_forget_0 9 rfl rfl)
theorem dX0_forget_10 : decode cX0_forget 10 = .ok (.aload_n 0, 1) := dk_42 (dk_at dksX0_forget_0 10 rfl rfl)
theorem dX0_forget_11 : decode cX0_forget 11 = .ok (.invokevirtual 193, 3) := dk_182 0 193 (dk_at dksX0_forget_0 11 rfl rfl)
theorem dX0_forget_14 : decode cX0_forget 14 = .ok (.aload_n 0, 1) := dk_42 (dk_at dksX0_forget_0 14 rfl rfl)
theorem dX0_forget_15 : decode cX0_forget 15 = .ok (.getfield 114, 3) := dk_180 0 114 (dk_at dksX0_forget_0 15 rfl rfl)
theorem dX0_forget_18 : decode cX0_forget 18 = .ok (.getfield 341, 3) := dk_180 1 85 (dk_at dksX0_forget_0 18 rfl rfl)
theorem dX0_forget_21 : decode cX0_forget 21 = .ok (.iload_n 1, 1) := dk_27 (dk_at dksX0_forget_0 21 rfl rfl)
theorem dX0_forget_22 : decode cX0_forget 22 = .ok (.invokevirtual 411, 3) := dk_182 1 155 (dk_at dksX0_forget_1 0 rfl rfl)
theorem dX0_forget_25 : decode cX0_forget 25 = .ok (.pop, 1) := dk_87 (dk_at dksX0_forget_1 3 rfl rfl)
theorem dX0_forget_26 : decode cX0_forget 26 = .ok (.aload_n 0, 1) := dk_42 (dk_at dksX0_forget_1 4 rfl rfl)
theorem dX0_forget_27 : decode cX0_forget 27 = .ok (.getfield 114, 3) := dk_180 0 114 (dk_at dksX0_forget_1 5 rfl rfl)
theorem dX0_forget_30 : decode cX0_forget 30 = .ok (.getfield 341, 3) := dk_180 1 85 (dk_at dksX0_forget_1 8 rfl rfl)
theorem dX0_forget_33 : decode cX0_forget 33 = .ok (.invokevirtual 385, 3) := dk_182 1 129 (dk_at dksX0_forget_1 11 rfl rfl)
theorem dX0_forget_36 : decode cX0_forget 36 = .ok (.ireturn, 1) := dk_172 (dk_at dksX0_forget_1 14 rfl rfl)
abbrev cX0_isEntry : ByteArray := prog_1_method_67_code
def yX0_isEntry : MethodName := ⟨RX0, "isEntry", "(I)Z"⟩
def dkwX0_isEntry_1 : List UInt8 := [153, 0, 7, 4, 167, 0, 4, 3, 172]
abbrev dktX0_isEntry_1 : List UInt8 := dkwX0_isEntry_1 ++ []
def dkwX0_isEntry_0 : List UInt8 := [42, 182, 0, 172, 153, 0, 27, 27, 3, 42, 180, 0, 114, 180, 1, 85, 182, 1, 129, 4, 100, 184, 0, 125]
abbrev dktX0_isEntry_0 : List UInt8 := dkwX0_isEntry_0 ++ dktX0_isEntry_1
theorem dksX0_isEntry_0 : cX0_isEntry.data.toList.drop 0 = dktX0_isEntry_0 := by decide +kernel
theorem dksX0_isEntry_1 : cX0_isEntry.data.toList.drop 24 = dktX0_isEntry_1 := dk_seg dksX0_isEntry_0 24 rfl rfl
theorem dX0_isEntry_0 : decode cX0_isEntry 0 = .ok (.aload_n 0, 1) := dk_42 (dk_at dksX0_isEntry_0 0 rfl rfl)
theorem dX0_isEntry_1 : decode cX0_isEntry 1 = .ok (.invokevirtual 172, 3) := dk_182 0 172 (dk_at dksX0_isEntry_0 1 rfl rfl)
theorem dX0_isEntry_4 : decode cX0_isEntry 4 = .ok (.ifCond .eq 27, 3) := dk_153 0 27 (dk_at dksX0_isEntry_0 4 rfl rfl)
theorem dX0_isEntry_7 : decode cX0_isEntry 7 = .ok (.iload_n 1, 1) := dk_27 (dk_at dksX0_isEntry_0 7 rfl rfl)
theorem dX0_isEntry_8 : decode cX0_isEntry 8 = .ok (.iconst 0, 1) := dk_3 (dk_at dksX0_isEntry_0 8 rfl rfl)
theorem dX0_isEntry_9 : decode cX0_isEntry 9 = .ok (.aload_n 0, 1) := dk_42 (dk_at dksX0_isEntry_0 9 rfl rfl)
theorem dX0_isEntry_10 : decode cX0_isEntry 10 = .ok (.getfield 114, 3) := dk_180 0 114 (dk_at dksX0_isEntry_0 10 rfl rfl)
theorem dX0_isEntry_13 : decode cX0_isEntry 13 = .ok (.getfield 341, 3) := dk_180 1 85 (dk_at dksX0_isEntry_0 13 rfl rfl)
theorem dX0_isEntry_16 : decode cX0_isEntry 16 = .ok (.invokevirtual 385, 3) := dk_182 1 129 (dk_at dksX0_isEntry_0 16 rfl rfl)
theorem dX0_isEntry_19 : decode cX0_isEntry 19 = .ok (.iconst 1, 1) := dk_4 (dk_at dksX0_isEntry_0 19 rfl rfl)
theorem dX0_isEntry_20 : decode cX0_isEntry 20 = .ok (.isub, 1) := dk_100 (dk_at dksX0_isEntry_0 20 rfl rfl)
theorem dX0_isEntry_21 : decode cX0_isEntry 21 = .ok (.invokestatic 125, 3) := dk_184 0 125 (dk_at dksX0_isEntry_0 21 rfl rfl)
theorem dX0_isEntry_24 : decode cX0_isEntry 24 = .ok (.ifCond .eq 7, 3) := dk_153 0 7 (dk_at dksX0_isEntry_1 0 rfl rfl)
theorem dX0_isEntry_27 : decode cX0_isEntry 27 = .ok (.iconst 1, 1) := dk_4 (dk_at dksX0_isEntry_1 3 rfl rfl)
theorem dX0_isEntry_28 : decode cX0_isEntry 28 = .ok (.goto 4, 3) := dk_167 0 4 (dk_at dksX0_isEntry_1 4 rfl rfl)
theorem dX0_isEntry_31 : decode cX0_isEntry 31 = .ok (.iconst 0, 1) := dk_3 (dk_at dksX0_isEntry_1 7 rfl rfl)
theorem dX0_isEntry_32 : decode cX0_isEntry 32 = .ok (.ireturn, 1) := dk_172 (dk_at dksX0_isEntry_1 8 rfl rfl)
abbrev cX0_memoryCount : ByteArray := prog_1_method_69_code
def yX0_memoryCount : MethodName := ⟨RX0, "memoryCount", "()I"⟩
def dkwX0_memoryCount_0 : List UInt8 := [42, 182, 0, 172, 153, 0, 16, 42, 180, 0, 114, 180, 1, 85, 182, 1, 129, 167, 0, 4, 2, 172]
abbrev dktX0_memoryCount_0 : List UInt8 := dkwX0_memoryCount_0 ++ []
theorem dksX0_memoryCount_0 : cX0_memoryCount.data.toList.drop 0 = dktX0_memoryCount_0 := by decide +kernel
theorem dX0_memoryCount_0 : decode cX0_memoryCount 0 = .ok (.aload_n 0, 1) := dk_42 (dk_at dksX0_memoryCount_0 0 rfl rfl)
theorem dX0_memoryCount_1 : decode cX0_memoryCount 1 = .ok (.invokevirtual 172, 3) := dk_182 0 172 (dk_at dksX0_memoryCount_0 1 rfl rfl)
theorem dX0_memoryCount_4 : decode cX0_memoryCount 4 = .ok (.ifCond .eq 16, 3) := dk_153 0 16 (dk_at dksX0_memoryCount_0 4 rfl rfl)
theorem dX0_memoryCount_7 : decode cX0_memoryCount 7 = .ok (.aload_n 0, 1) := dk_42 (dk_at dksX0_memoryCount_0 7 rfl rfl)
theorem dX0_memoryCount_8 : decode cX0_memoryCount 8 = .ok (.getfield 114, 3) := dk_180 0 114 (dk_at dksX0_memoryCount_0 8 rfl rfl)
theorem dX0_memoryCount_11 : decode cX0_memoryCount 11 = .ok (.getfield 341, 3) := dk_180 1 85 (dk_at dksX0_memoryCount_0 11 rfl rfl)
theorem dX0_memoryCount_14 : decode cX0_memoryCount 14 = .ok (.invokevirtual 385, 3) := dk_182 1 129 (dk_at dksX0_memoryCount_0 14 rfl rfl)
theorem dX0_memoryCount_17 : decode cX0_memoryCount 17 = .ok (.goto 4, 3) := dk_167 0 4 (dk_at dksX0_memoryCount_0 17 rfl rfl)
theorem dX0_memoryCount_20 : decode cX0_memoryCount 20 = .ok (.iconst (-1), 1) := dk_2 (dk_at dksX0_memoryCount_0 20 rfl rfl)
theorem dX0_memoryCount_21 : decode cX0_memoryCount 21 = .ok (.ireturn, 1) := dk_172 (dk_at dksX0_memoryCount_0 21 rfl rfl)
abbrev cX0_memoryFrequency : ByteArray := prog_1_method_70_code
def yX0_memoryFrequency : MethodName := ⟨RX0, "memoryFrequency", "(I)I"⟩
def dkwX0_memoryFrequency_1 : List UInt8 := [180, 1, 125, 167, 0, 4, 2, 172]
abbrev dktX0_memoryFrequency_1 : List UInt8 := dkwX0_memoryFrequency_1 ++ []
def dkwX0_memoryFrequency_0 : List UInt8 := [42, 27, 182, 1, 152, 153, 0, 23, 42, 180, 0, 114, 180, 1, 85, 27, 182, 1, 92, 192, 1, 98]
abbrev dktX0_memoryFrequency_0 : List UInt8 := dkwX0_memoryFrequency_0 ++ dktX0_memoryFrequency_1
theorem dksX0_memoryFrequency_0 : cX0_memoryFrequency.data.toList.drop 0 = dktX0_memoryFrequency_0 := by decide +kernel
theorem dksX0_memoryFrequency_1 : cX0_memoryFrequency.data.toList.drop 22 = dktX0_memoryFrequency_1 := dk_seg dksX0_memoryFrequency_0 22 rfl rfl
theorem dX0_memoryFrequency_0 : decode cX0_memoryFrequency 0 = .ok (.aload_n 0, 1) := dk_42 (dk_at dksX0_memoryFrequency_0 0 rfl rfl)
theorem dX0_memoryFrequency_1 : decode cX0_memoryFrequency 1 = .ok (.iload_n 1, 1) := dk_27 (dk_at dksX0_memoryFrequency_0 1 rfl rfl)
theorem dX0_memoryFrequency_2 : decode cX0_memoryFrequency 2 = .ok (.invokevirtual 408, 3) := dk_182 1 152 (dk_at dksX0_memoryFrequency_0 2 rfl rfl)
theorem dX0_memoryFrequency_5 : decode cX0_memoryFrequency 5 = .ok (.ifCond .eq 23, 3) := dk_153 0 23 (dk_at dksX0_memoryFrequency_0 5 rfl rfl)
theorem dX0_memoryFrequency_8 : decode cX0_memoryFrequency 8 = .ok (.aload_n 0, 1) := dk_42 (dk_at dksX0_memoryFrequency_0 8 rfl rfl)
theorem dX0_memoryFrequency_9 : decode cX0_memoryFrequency 9 = .ok (.getfield 114, 3) := dk_180 0 114 (dk_at dksX0_memoryFrequency_0 9 rfl rfl)
theorem dX0_memoryFrequency_12 : decode cX0_memoryFrequency 12 = .ok (.getfield 341, 3) := dk_180 1 85 (dk_at dksX0_memoryFrequency_0 12 rfl rfl)
theorem dX0_memoryFrequency_15 : decode cX0_memoryFrequency 15 = .ok (.iload_n 1, 1) := dk_27 (dk_at dksX0_memoryFrequency_0 15 rfl rfl)
theorem dX0_memoryFrequency_16 : decode cX0_memoryFrequency 16 = .ok (.invokevirtual 348, 3) := dk_182 1 92 (dk_at dksX0_memoryFrequency_0 16 rfl rfl)
theorem dX0_memoryFrequency_19 : decode cX0_memoryFrequency 19 = .ok (.checkcast 354, 3) := dk_192 1 98 (dk_at dksX0_memoryFrequency_0 19 rfl rfl)
theorem dX0_memoryFrequency_22 : decode cX0_memoryFrequency 22 = .ok (.getfield 381, 3) := dk_180 1 125 (dk_at dksX0_memoryFrequency_1 0 rfl rfl)
theorem dX0_memoryFrequency_25 : decode cX0_memoryFrequency 25 = .ok (.goto 4, 3) := dk_167 0 4 (dk_at dksX0_memoryFrequency_1 3 rfl rfl)
theorem dX0_memoryFrequency_28 : decode cX0_memoryFrequency 28 = .ok (.iconst (-1), 1) := dk_2 (dk_at dksX0_memoryFrequency_1 6 rfl rfl)
theorem dX0_memoryFrequency_29 : decode cX0_memoryFrequency 29 = .ok (.ireturn, 1) := dk_172 (dk_at dksX0_memoryFrequency_1 7 rfl rfl)
abbrev cX0_memorySettings : ByteArray := prog_1_method_71_code
def yX0_memorySettings : MethodName := ⟨RX0, "memorySettings", "(I)I"⟩
def dkwX0_memorySettings_1 : List UInt8 := [180, 1, 100, 167, 0, 4, 2, 172]
abbrev dktX0_memorySettings_1 : List UInt8 := dkwX0_memorySettings_1 ++ []
def dkwX0_memorySettings_0 : List UInt8 := [42, 27, 182, 1, 152, 153, 0, 23, 42, 180, 0, 114, 180, 1, 85, 27, 182, 1, 92, 192, 1, 98]
abbrev dktX0_memorySettings_0 : List UInt8 := dkwX0_memorySettings_0 ++ dktX0_memorySettings_1
theorem dksX0_memorySettings_0 : cX0_memorySettings.data.toList.drop 0 = dktX0_memorySettings_0 := by decide +kernel
theorem dksX0_memorySettings_1 : cX0_memorySettings.data.toList.drop 22 = dktX0_memorySettings_1 := dk_seg dksX0_memorySettings_0 22 rfl rfl
theorem dX0_memorySettings_0 : decode cX0_memorySettings 0 = .ok (.aload_n 0, 1) := dk_42 (dk_at dksX0_memorySettings_0 0 rfl rfl)
theorem dX0_memorySettings_1 : decode cX0_memorySettings 1 = .ok (.iload_n 1, 1) := dk_27 (dk_at dksX0_memorySettings_0 1 rfl rfl)
theorem dX0_memorySettings_2 : decode cX0_memorySettings 2 = .ok (.invokevirtual 408, 3) := dk_182 1 152 (dk_at dksX0_memorySettings_0 2 rfl rfl)
theorem dX0_memorySettings_5 : decode cX0_memorySettings 5 = .ok (.ifCond .eq 23, 3) := dk_153 0 23 (dk_at dksX0_memorySettings_0 5 rfl rfl)
theorem dX0_memorySettings_8 : decode cX0_memorySettings 8 = .ok (.aload_n 0, 1) := dk_42 (dk_at dksX0_memorySettings_0 8 rfl rfl)
theorem dX0_memorySettings_9 : decode cX0_memorySettings 9 = .ok (.getfield 114, 3) := dk_180 0 114 (dk_at dksX0_memorySettings_0 9 rfl rfl)
theorem dX0_memorySettings_12 : decode cX0_memorySettings 12 = .ok (.getfield 341, 3) := dk_180 1 85 (dk_at dksX0_memorySettings_0 12 rfl rfl)
theorem dX0_memorySettings_15 : decode cX0_memorySettings 15 = .ok (.iload_n 1, 1) := dk_27 (dk_at dksX0_memorySettings_0 15 rfl rfl)
theorem dX0_memorySettings_16 : decode cX0_memorySettings 16 = .ok (.invokevirtual 348, 3) := dk_182 1 92 (dk_at dksX0_memorySettings_0 16 rfl rfl)
theorem dX0_memorySettings_19 : decode cX0_memorySettings 19 = .ok (.checkcast 354, 3) := dk_192 1 98 (dk_at dksX0_memorySettings_0 19 rfl rfl)
theorem dX0_memorySettings_22 : decode cX0_memorySettings 22 = .ok (.getfield 356, 3) := dk_180 1 100 (dk_at dksX0_memorySettings_1 0 rfl rfl)
theorem dX0_memorySettings_25 : decode cX0_memorySettings 25 = .ok (.goto 4, 3) := dk_167 0 4 (dk_at dksX0_memorySettings_1 3 rfl rfl)
theorem dX0_memorySettings_28 : decode cX0_memorySettings 28 = .ok (.iconst (-1), 1) := dk_2 (dk_at dksX0_memorySettings_1 6 rfl rfl)
theorem dX0_memorySettings_29 : decode cX0_memorySettings 29 = .ok (.ireturn, 1) := dk_172 (dk_at dksX0_memorySettings_1 7 rfl rfl)
abbrev cX0_memorySwr : ByteArray := prog_1_method_72_code
def yX0_memorySwr : MethodName := ⟨RX0, "memorySwr", "(I)I"⟩
def dkwX0_memorySwr_1 : List UInt8 := [180, 1, 158, 167, 0, 4, 2, 172]
abbrev dktX0_memorySwr_1 : List UInt8 := dkwX0_memorySwr_1 ++ []
def dkwX0_memorySwr_0 : List UInt8 := [42, 27, 182, 1, 152, 153, 0, 23, 42, 180, 0, 114, 180, 1, 85, 27, 182, 1, 92, 192, 1, 98]
abbrev dktX0_memorySwr_0 : List UInt8 := dkwX0_memorySwr_0 ++ dktX0_memorySwr_1
theorem dksX0_memorySwr_0 : cX0_memorySwr.data.toList.drop 0 = dktX0_memorySwr_0 := by decide +kernel
theorem dksX0_memorySwr_1 : cX0_memorySwr.data.toList.drop 22 = dktX0_memorySwr_1 := dk_seg dksX0_memorySwr_0 22 rfl rfl
theorem dX0_memorySwr_0 : decode cX0_memorySwr 0 = .ok (.aload_n 0, 1) := dk_42 (dk_at dksX0_memorySwr_0 0 rfl rfl)
theorem dX0_memorySwr_1 : decode cX0_memorySwr 1 = .ok (.iload_n 1, 1) := dk_27 (dk_at dksX0_memorySwr_0 1 rfl rfl)
theorem dX0_memorySwr_2 : decode cX0_memorySwr 2 = .ok (.invokevirtual 408, 3) := dk_182 1 152 (dk_at dksX0_memorySwr_0 2 rfl rfl)
theorem dX0_memorySwr_5 : decode cX0_memorySwr 5 = .ok (.ifCond .eq 23, 3) := dk_153 0 23 (dk_at dksX0_memorySwr_0 5 rfl rfl)
theorem dX0_memorySwr_8 : decode cX0_memorySwr 8 = .ok (.aload_n 0, 1) := dk_42 (dk_at dksX0_memorySwr_0 8 rfl rfl)
theorem dX0_memorySwr_9 : decode cX0_memorySwr 9 = .ok (.getfield 114, 3) := dk_180 0 114 (dk_at dksX0_memorySwr_0 9 rfl rfl)
theorem dX0_memorySwr_12 : decode cX0_memorySwr 12 = .ok (.getfield 341, 3) := dk_180 1 85 (dk_at dksX0_memorySwr_0 12 rfl rfl)
theorem dX0_memorySwr_15 : decode cX0_memorySwr 15 = .ok (.iload_n 1, 1) := dk_27 (dk_at dksX0_memorySwr_0 15 rfl rfl)
theorem dX0_memorySwr_16 : decode cX0_memorySwr 16 = .ok (.invokevirtual 348, 3) := dk_182 1 92 (dk_at dksX0_memorySwr_0 16 rfl rfl)
theorem dX0_memorySwr_19 : decode cX0_memorySwr 19 = .ok (.checkcast 354, 3) := dk_192 1 98 (dk_at dksX0_memorySwr_0 19 rfl rfl)
theorem dX0_memorySwr_22 : decode cX0_memorySwr 22 = .ok (.getfield 414, 3) := dk_180 1 158 (dk_at dksX0_memorySwr_1 0 rfl rfl)
theorem dX0_memorySwr_25 : decode cX0_memorySwr 25 = .ok (.goto 4, 3) := dk_167 0 4 (dk_at dksX0_memorySwr_1 3 rfl rfl)
theorem dX0_memorySwr_28 : decode cX0_memorySwr 28 = .ok (.iconst (-1), 1) := dk_2 (dk_at dksX0_memorySwr_1 6 rfl rfl)
theorem dX0_memorySwr_29 : decode cX0_memorySwr 29 = .ok (.ireturn, 1) := dk_172 (dk_at dksX0_memorySwr_1 7 rfl rfl)
abbrev cX0_undo : ByteArray := prog_1_method_73_code
def yX0_undo : MethodName := ⟨RX0, "undo", "()I"⟩
def dkwX0_undo_1 : List UInt8 := [180, 0, 96, 182, 1, 162, 192, 0, 112, 181, 0, 114, 42, 180, 0, 96, 182, 0, 104, 172]
abbrev dktX0_undo_1 : List UInt8 := dkwX0_undo_1 ++ []
def dkwX0_undo_0 : List UInt8 := [42, 182, 0, 172, 154, 0, 5, 2, 172, 42, 180, 0, 96, 182, 1, 159, 153, 0, 6, 16, 254, 172, 42, 42]
abbrev dktX0_undo_0 : List UInt8 := dkwX0_undo_0 ++ dktX0_undo_1
theorem dksX0_undo_0 : cX0_undo.data.toList.drop 0 = dktX0_undo_0 := by decide +kernel
theorem dksX0_undo_1 : cX0_undo.data.toList.drop 24 = dktX0_undo_1 := dk_seg dksX0_undo_0 24 rfl rfl
theorem dX0_undo_0 : decode cX0_undo 0 = .ok (.aload_n 0, 1) := dk_42 (dk_at dksX0_undo_0 0 rfl rfl)
theorem dX0_undo_1 : decode cX0_undo 1 = .ok (.invokevirtual 172, 3) := dk_182 0 172 (dk_at dksX0_undo_0 1 rfl rfl)
theorem dX0_undo_4 : decode cX0_undo 4 = .ok (.ifCond .ne 5, 3) := dk_154 0 5 (dk_at dksX0_undo_0 4 rfl rfl)
theorem dX0_undo_7 : decode cX0_undo 7 = .ok (.iconst (-1), 1) := dk_2 (dk_at dksX0_undo_0 7 rfl rfl)
theorem dX0_undo_8 : decode cX0_undo 8 = .ok (.ireturn, 1) := dk_172 (dk_at dksX0_undo_0 8 rfl rfl)
theorem dX0_undo_9 : decode cX0_undo 9 = .ok (.aload_n 0, 1) := dk_42 (dk_at dksX0_undo_0 9 rfl rfl)
theorem dX0_undo_10 : decode cX0_undo 10 = .ok (.getfield 96, 3) := dk_180 0 96 (dk_at dksX0_undo_0 10 rfl rfl)
theorem dX0_undo_13 : decode cX0_undo 13 = .ok (.invokevirtual 415, 3) := dk_182 1 159 (dk_at dksX0_undo_0 13 rfl rfl)
theorem dX0_undo_16 : decode cX0_undo 16 = .ok (.ifCond .eq 6, 3) := dk_153 0 6 (dk_at dksX0_undo_0 16 rfl rfl)
theorem dX0_undo_19 : decode cX0_undo 19 = .ok (.bipush (-2), 2) := dk_16 254 (dk_at dksX0_undo_0 19 rfl rfl)
theorem dX0_undo_21 : decode cX0_undo 21 = .ok (.ireturn, 1) := dk_172 (dk_at dksX0_undo_0 21 rfl rfl)
theorem dX0_undo_22 : decode cX0_undo 22 = .ok (.aload_n 0, 1) := dk_42 (dk_at dksX0_undo_0 22 rfl rfl)
theorem dX0_undo_23 : decode cX0_undo 23 = .ok (.aload_n 0, 1) := dk_42 (dk_at dksX0_undo_0 23 rfl rfl)
theorem dX0_undo_24 : decode cX0_undo 24 = .ok (.getfield 96, 3) := dk_180 0 96 (dk_at dksX0_undo_1 0 rfl rfl)
theorem dX0_undo_27 : decode cX0_undo 27 = .ok (.invokevirtual 418, 3) := dk_182 1 162 (dk_at dksX0_undo_1 3 rfl rfl)
theorem dX0_undo_30 : decode cX0_undo 30 = .ok (.checkcast 112, 3) := dk_192 0 112 (dk_at dksX0_undo_1 6 rfl rfl)
theorem dX0_undo_33 : decode cX0_undo 33 = .ok (.putfield 114, 3) := dk_181 0 114 (dk_at dksX0_undo_1 9 rfl rfl)
theorem dX0_undo_36 : decode cX0_undo 36 = .ok (.aload_n 0, 1) := dk_42 (dk_at dksX0_undo_1 12 rfl rfl)
theorem dX0_undo_37 : decode cX0_undo 37 = .ok (.getfield 96, 3) := dk_180 0 96 (dk_at dksX0_undo_1 13 rfl rfl)
theorem dX0_undo_40 : decode cX0_undo 40 = .ok (.invokevirtual 104, 3) := dk_182 0 104 (dk_at dksX0_undo_1 16 rfl rfl)
theorem dX0_undo_43 : decode cX0_undo 43 = .ok (.ireturn, 1) := dk_172 (dk_at dksX0_undo_1 19 rfl rfl)
theorem q94 : (Jvm.Cond.initialized "AntennaTuner") ∈ lw_all := lw_g (lw_at lw_m1 1 rfl) rfl
theorem q131 : (Jvm.Cond.instantiable "AntennaTuner" (11 : Nat)) ∈ lw_all := lw_g (lw_at lw_m1 38 rfl) rfl
theorem q133 : (Jvm.Cond.instanceMethod ({ cls := "AntennaTuner", name := "<init>", desc := "()V" } : Jvm.MethodName)) ∈ lw_all := lw_g (lw_at lw_m1 40 rfl) rfl
theorem q134 : (Jvm.Cond.code ({ cls := "AntennaTuner", name := "<init>", desc := "()V" } : Jvm.MethodName) prog_1_method_5_code (1 : Nat) (Option.none : Option Jvm.ClassFile.FieldType)) ∈ lw_all := lw_g (lw_at lw_m1 41 rfl) rfl
theorem q135 : (Jvm.Cond.methodLink "AntennaTuner" (45 : Nat) ({ cls := "java/lang/Object", name := "<init>", desc := "()V" } : Jvm.MethodName)) ∈ lw_all := lw_g (lw_at lw_m1 42 rfl) rfl
theorem q138 : (Jvm.Cond.classLink "AntennaTuner" (61 : Nat) "AntennaTuner$Wiring") ∈ lw_all := lw_g (lw_at lw_m1 45 rfl) rfl
theorem q140 : (Jvm.Cond.static ({ cls := "AntennaTuner", name := "capacitorFirst", desc := "(LAntennaTuner$Circuit;)V" } : Jvm.MethodName)) ∈ lw_all := lw_g (lw_at lw_m1 47 rfl) rfl
theorem q141 : (Jvm.Cond.code ({ cls := "AntennaTuner", name := "capacitorFirst", desc := "(LAntennaTuner$Circuit;)V" } : Jvm.MethodName) prog_1_method_3_code (1 : Nat) (Option.none : Option Jvm.ClassFile.FieldType)) ∈ lw_all := lw_g (lw_at lw_m1 48 rfl) rfl
theorem q142 : (Jvm.Cond.methodLink "AntennaTuner" (17 : Nat) ({ cls := "AntennaTuner$Impedance", name := "addInParallel", desc := "(J)V" } : Jvm.MethodName)) ∈ lw_all := lw_g (lw_at lw_m1 49 rfl) rfl
theorem q167 : (Jvm.Cond.methodLink "AntennaTuner" (32 : Nat) ({ cls := "AntennaTuner$Impedance", name := "set", desc := "(JJ)V" } : Jvm.MethodName)) ∈ lw_all := lw_g (lw_at lw_m1 74 rfl) rfl
theorem q168 : (Jvm.Cond.methodLink "AntennaTuner" (42 : Nat) ({ cls := "AntennaTuner$Impedance", name := "addInSeries", desc := "(JJ)V" } : Jvm.MethodName)) ∈ lw_all := lw_g (lw_at lw_m1 75 rfl) rfl
theorem q172 : (Jvm.Cond.static ({ cls := "AntennaTuner", name := "coilFirst", desc := "(LAntennaTuner$Circuit;)V" } : Jvm.MethodName)) ∈ lw_all := lw_g (lw_at lw_m1 79 rfl) rfl
theorem q173 : (Jvm.Cond.code ({ cls := "AntennaTuner", name := "coilFirst", desc := "(LAntennaTuner$Circuit;)V" } : Jvm.MethodName) prog_1_method_4_code (1 : Nat) (Option.none : Option Jvm.ClassFile.FieldType)) ∈ lw_all := lw_g (lw_at lw_m1 80 rfl) rfl
theorem q174 : (Jvm.Cond.classLink "AntennaTuner" (72 : Nat) "AntennaTuner$Move") ∈ lw_all := lw_g (lw_at lw_m1 81 rfl) rfl
theorem q176 : (Jvm.Cond.static ({ cls := "AntennaTuner", name := "lambda$new$0", desc := "(LAntennaTuner$Setting;I)LAntennaTuner$Setting;" } : Jvm.MethodName)) ∈ lw_all := lw_g (lw_at lw_m1 83 rfl) rfl
theorem q177 : (Jvm.Cond.code ({ cls := "AntennaTuner", name := "lambda$new$0", desc := "(LAntennaTuner$Setting;I)LAntennaTuner$Setting;" } : Jvm.MethodName) prog_1_method_78_code (2 : Nat) (Option.some (Jvm.ClassFile.FieldType.object "AntennaTuner$Setting"))) ∈ lw_all := lw_g (lw_at lw_m1 84 rfl) rfl
theorem q178 : (Jvm.Cond.classLink "AntennaTuner" (206 : Nat) "AntennaTuner$Setting") ∈ lw_all := lw_g (lw_at lw_m1 85 rfl) rfl
theorem q180 : (Jvm.Cond.methodLink "AntennaTuner" (225 : Nat) ({ cls := "AntennaTuner$Setting", name := "<init>", desc := "(III)V" } : Jvm.MethodName)) ∈ lw_all := lw_g (lw_at lw_m1 87 rfl) rfl
theorem q185 : (Jvm.Cond.fieldLinkNest "AntennaTuner" (232 : Nat) "AntennaTuner$Setting" "side" "I" "AntennaTuner") ∈ lw_tbl := lw_at lw_m1 92 rfl
theorem q188 : (Jvm.Cond.fieldLinkNest "AntennaTuner" (220 : Nat) "AntennaTuner$Setting" "coil" "I" "AntennaTuner") ∈ lw_tbl := lw_at lw_m1 95 rfl
theorem q191 : (Jvm.Cond.fieldLinkNest "AntennaTuner" (222 : Nat) "AntennaTuner$Setting" "capacitor" "I" "AntennaTuner") ∈ lw_tbl := lw_at lw_m1 98 rfl
theorem q200 : (Jvm.Cond.static ({ cls := "AntennaTuner", name := "lambda$new$1", desc := "(LAntennaTuner$Setting;I)LAntennaTuner$Setting;" } : Jvm.MethodName)) ∈ lw_all := lw_g (lw_at lw_m1 107 rfl) rfl
theorem q201 : (Jvm.Cond.code ({ cls := "AntennaTuner", name := "lambda$new$1", desc := "(LAntennaTuner$Setting;I)LAntennaTuner$Setting;" } : Jvm.MethodName) prog_1_method_77_code (2 : Nat) (Option.some (Jvm.ClassFile.FieldType.object "AntennaTuner$Setting"))) ∈ lw_all := lw_g (lw_at lw_m1 108 rfl) rfl
theorem q202 : (Jvm.Cond.static ({ cls := "AntennaTuner", name := "lambda$new$2", desc := "(LAntennaTuner$Setting;I)LAntennaTuner$Setting;" } : Jvm.MethodName)) ∈ lw_all := lw_g (lw_at lw_m1 109 rfl) rfl
theorem q203 : (Jvm.Cond.code ({ cls := "AntennaTuner", name := "lambda$new$2", desc := "(LAntennaTuner$Setting;I)LAntennaTuner$Setting;" } : Jvm.MethodName) prog_1_method_76_code (2 : Nat) (Option.some (Jvm.ClassFile.FieldType.object "AntennaTuner$Setting"))) ∈ lw_all := lw_g (lw_at lw_m1 110 rfl) rfl
theorem q204 : (Jvm.Cond.static ({ cls := "AntennaTuner", name := "lambda$new$3", desc := "(LAntennaTuner$Setting;I)LAntennaTuner$Setting;" } : Jvm.MethodName)) ∈ lw_all := lw_g (lw_at lw_m1 111 rfl) rfl
theorem q205 : (Jvm.Cond.code ({ cls := "AntennaTuner", name := "lambda$new$3", desc := "(LAntennaTuner$Setting;I)LAntennaTuner$Setting;" } : Jvm.MethodName) prog_1_method_75_code (2 : Nat) (Option.some (Jvm.ClassFile.FieldType.object "AntennaTuner$Setting"))) ∈ lw_all := lw_g (lw_at lw_m1 112 rfl) rfl
theorem q206 : (Jvm.Cond.static ({ cls := "AntennaTuner", name := "lambda$new$4", desc := "(LAntennaTuner$Setting;I)LAntennaTuner$Setting;" } : Jvm.MethodName)) ∈ lw_all := lw_g (lw_at lw_m1 113 rfl) rfl
theorem q207 : (Jvm.Cond.code ({ cls := "AntennaTuner", name := "lambda$new$4", desc := "(LAntennaTuner$Setting;I)LAntennaTuner$Setting;" } : Jvm.MethodName) prog_1_method_74_code (2 : Nat) (Option.some (Jvm.ClassFile.FieldType.object "AntennaTuner$Setting"))) ∈ lw_all := lw_g (lw_at lw_m1 114 rfl) rfl
theorem q208 : (Jvm.Cond.classLink "AntennaTuner" (8 : Nat) "AntennaTuner$Circuit") ∈ lw_all := lw_g (lw_at lw_m1 115 rfl) rfl
theorem q210 : (Jvm.Cond.methodLinkNest "AntennaTuner" (86 : Nat) ({ cls := "AntennaTuner$Circuit", name := "<init>", desc := "(LAntennaTuner;)V" } : Jvm.MethodName) "AntennaTuner") ∈ lw_tbl := lw_at lw_m1 117 rfl
theorem q220 : (Jvm.Cond.fieldLinkNest "AntennaTuner" (26 : Nat) "AntennaTuner$Impedance" "resistance" "J" "AntennaTuner") ∈ lw_tbl := lw_at lw_m1 127 rfl
theorem q223 : (Jvm.Cond.fieldLinkNest "AntennaTuner" (29 : Nat) "AntennaTuner$Impedance" "reactance" "J" "AntennaTuner") ∈ lw_tbl := lw_at lw_m1 130 rfl
theorem q231 : (Jvm.Cond.fieldLinkNest "AntennaTuner" (39 : Nat) "AntennaTuner$Circuit" "coil" "J" "AntennaTuner") ∈ lw_tbl := lw_at lw_m1 138 rfl
theorem q233 : (Jvm.Cond.fieldLinkNest "AntennaTuner" (36 : Nat) "AntennaTuner$Circuit" "loss" "J" "AntennaTuner") ∈ lw_tbl := lw_at lw_m1 140 rfl
theorem q235 : (Jvm.Cond.fieldLinkNest "AntennaTuner" (13 : Nat) "AntennaTuner$Circuit" "susceptance" "J" "AntennaTuner") ∈ lw_tbl := lw_at lw_m1 142 rfl
theorem q237 : (Jvm.Cond.fieldLinkNest "AntennaTuner" (23 : Nat) "AntennaTuner$Circuit" "loaded" "LAntennaTuner$Impedance;" "AntennaTuner") ∈ lw_tbl := lw_at lw_m1 144 rfl
theorem q239 : (Jvm.Cond.fieldLinkNest "AntennaTuner" (7 : Nat) "AntennaTuner$Circuit" "input" "LAntennaTuner$Impedance;" "AntennaTuner") ∈ lw_tbl := lw_at lw_m1 146 rfl
theorem q256 : (Jvm.Cond.classLink "AntennaTuner" (93 : Nat) "java/util/ArrayDeque") ∈ lw_all := lw_g (lw_at lw_m1 163 rfl) rfl
theorem q258 : (Jvm.Cond.methodLink "AntennaTuner" (95 : Nat) ({ cls := "java/util/ArrayDeque", name := "<init>", desc := "()V" } : Jvm.MethodName)) ∈ lw_all := lw_g (lw_at lw_m1 165 rfl) rfl
theorem q278 : (Jvm.Cond.fieldLink "AntennaTuner" (53 : Nat) "AntennaTuner" "buffer" "[B") ∈ lw_all := lw_g (lw_at lw_m1 185 rfl) rfl
theorem q280 : (Jvm.Cond.fieldLink "AntennaTuner" (129 : Nat) "AntennaTuner" "used" "I") ∈ lw_all := lw_g (lw_at lw_m1 187 rfl) rfl
theorem q281 : (Jvm.Cond.fieldLink "AntennaTuner" (57 : Nat) "AntennaTuner" "errorPosition" "I") ∈ lw_all := lw_g (lw_at lw_m1 188 rfl) rfl
theorem q283 : (Jvm.Cond.fieldLink "AntennaTuner" (68 : Nat) "AntennaTuner" "wirings" "[LAntennaTuner$Wiring;") ∈ lw_all := lw_g (lw_at lw_m1 190 rfl) rfl
theorem q285 : (Jvm.Cond.fieldLink "AntennaTuner" (82 : Nat) "AntennaTuner" "moves" "[LAntennaTuner$Move;") ∈ lw_all := lw_g (lw_at lw_m1 192 rfl) rfl
theorem q286 : (Jvm.Cond.fieldLink "AntennaTuner" (89 : Nat) "AntennaTuner" "circuit" "LAntennaTuner$Circuit;") ∈ lw_all := lw_g (lw_at lw_m1 193 rfl) rfl
theorem q288 : (Jvm.Cond.fieldLink "AntennaTuner" (162 : Nat) "AntennaTuner" "failure" "LAntennaTuner$TunerFailure;") ∈ lw_all := lw_g (lw_at lw_m1 195 rfl) rfl
theorem q291 : (Jvm.Cond.fieldLink "AntennaTuner" (100 : Nat) "AntennaTuner" "tuner" "LAntennaTuner$Tuner;") ∈ lw_all := lw_g (lw_at lw_m1 198 rfl) rfl
theorem q293 : (Jvm.Cond.fieldLink "AntennaTuner" (114 : Nat) "AntennaTuner" "state" "LAntennaTuner$State;") ∈ lw_all := lw_g (lw_at lw_m1 200 rfl) rfl
theorem q294 : (Jvm.Cond.fieldLink "AntennaTuner" (96 : Nat) "AntennaTuner" "history" "Ljava/util/ArrayDeque;") ∈ lw_all := lw_g (lw_at lw_m1 201 rfl) rfl
theorem q295 : (Jvm.Cond.fieldLink "AntennaTuner" (166 : Nat) "AntennaTuner" "evaluations" "I") ∈ lw_all := lw_g (lw_at lw_m1 202 rfl) rfl
theorem q296 : (Jvm.Cond.laysFinal "AntennaTuner" "AntennaTuner" "buffer" "[B") ∈ lw_all := lw_g (lw_at lw_m1 203 rfl) rfl
theorem q297 : (Jvm.Cond.soleField "AntennaTuner" "buffer") ∈ lw_all := lw_g (lw_at lw_m1 204 rfl) rfl
theorem q298 : (Jvm.Cond.lays "AntennaTuner" "AntennaTuner" "used" "I") ∈ lw_all := lw_g (lw_at lw_m1 205 rfl) rfl
theorem q299 : (Jvm.Cond.soleField "AntennaTuner" "used") ∈ lw_all := lw_g (lw_at lw_m1 206 rfl) rfl
theorem q300 : (Jvm.Cond.lays "AntennaTuner" "AntennaTuner" "errorPosition" "I") ∈ lw_all := lw_g (lw_at lw_m1 207 rfl) rfl
theorem q301 : (Jvm.Cond.soleField "AntennaTuner" "errorPosition") ∈ lw_all := lw_g (lw_at lw_m1 208 rfl) rfl
theorem q302 : (Jvm.Cond.laysFinal "AntennaTuner" "AntennaTuner" "wirings" "[LAntennaTuner$Wiring;") ∈ lw_all := lw_g (lw_at lw_m1 209 rfl) rfl
theorem q303 : (Jvm.Cond.soleField "AntennaTuner" "wirings") ∈ lw_all := lw_g (lw_at lw_m1 210 rfl) rfl
theorem q304 : (Jvm.Cond.laysFinal "AntennaTuner" "AntennaTuner" "moves" "[LAntennaTuner$Move;") ∈ lw_all := lw_g (lw_at lw_m1 211 rfl) rfl
theorem q305 : (Jvm.Cond.soleField "AntennaTuner" "moves") ∈ lw_all := lw_g (lw_at lw_m1 212 rfl) rfl
theorem q306 : (Jvm.Cond.laysFinal "AntennaTuner" "AntennaTuner" "circuit" "LAntennaTuner$Circuit;") ∈ lw_all := lw_g (lw_at lw_m1 213 rfl) rfl
theorem q307 : (Jvm.Cond.soleField "AntennaTuner" "circuit") ∈ lw_all := lw_g (lw_at lw_m1 214 rfl) rfl
theorem q308 : (Jvm.Cond.lays "AntennaTuner" "AntennaTuner" "failure" "LAntennaTuner$TunerFailure;") ∈ lw_all := lw_g (lw_at lw_m1 215 rfl) rfl
theorem q309 : (Jvm.Cond.soleField "AntennaTuner" "failure") ∈ lw_all := lw_g (lw_at lw_m1 216 rfl) rfl
theorem q310 : (Jvm.Cond.lays "AntennaTuner" "AntennaTuner" "tuner" "LAntennaTuner$Tuner;") ∈ lw_all := lw_g (lw_at lw_m1 217 rfl) rfl
theorem q311 : (Jvm.Cond.soleField "AntennaTuner" "tuner") ∈ lw_all := lw_g (lw_at lw_m1 218 rfl) rfl
theorem q312 : (Jvm.Cond.lays "AntennaTuner" "AntennaTuner" "state" "LAntennaTuner$State;") ∈ lw_all := lw_g (lw_at lw_m1 219 rfl) rfl
theorem q313 : (Jvm.Cond.soleField "AntennaTuner" "state") ∈ lw_all := lw_g (lw_at lw_m1 220 rfl) rfl
theorem q314 : (Jvm.Cond.laysFinal "AntennaTuner" "AntennaTuner" "history" "Ljava/util/ArrayDeque;") ∈ lw_all := lw_g (lw_at lw_m1 221 rfl) rfl
theorem q315 : (Jvm.Cond.soleField "AntennaTuner" "history") ∈ lw_all := lw_g (lw_at lw_m1 222 rfl) rfl
theorem q316 : (Jvm.Cond.lays "AntennaTuner" "AntennaTuner" "evaluations" "I") ∈ lw_all := lw_g (lw_at lw_m1 223 rfl) rfl
theorem q317 : (Jvm.Cond.soleField "AntennaTuner" "evaluations") ∈ lw_all := lw_g (lw_at lw_m1 224 rfl) rfl
theorem q318 : (Jvm.Cond.superclass "AntennaTuner" "java/lang/Object") ∈ lw_all := lw_g (lw_at lw_m1 225 rfl) rfl
theorem q320 : (Jvm.Cond.instanceMethod ({ cls := "AntennaTuner", name := "append", desc := "(IIIII)I" } : Jvm.MethodName)) ∈ lw_all := lw_g (lw_at lw_m1 227 rfl) rfl
theorem q321 : (Jvm.Cond.selects "AntennaTuner" ({ cls := "AntennaTuner", name := "append", desc := "(IIIII)I" } : Jvm.MethodName) ({ cls := "AntennaTuner", name := "append", desc := "(IIIII)I" } : Jvm.MethodName)) ∈ lw_all := lw_g (lw_at lw_m1 228 rfl) rfl
theorem q322 : (Jvm.Cond.code ({ cls := "AntennaTuner", name := "append", desc := "(IIIII)I" } : Jvm.MethodName) prog_1_method_11_code (6 : Nat) (Option.some Jvm.ClassFile.FieldType.int)) ∈ lw_all := lw_g (lw_at lw_m1 229 rfl) rfl
theorem q323 : (Jvm.Cond.methodLink "AntennaTuner" (132 : Nat) ({ cls := "AntennaTuner", name := "put", desc := "(I)V" } : Jvm.MethodName)) ∈ lw_all := lw_g (lw_at lw_m1 230 rfl) rfl
theorem q324 : (Jvm.Cond.privateMethod ({ cls := "AntennaTuner", name := "put", desc := "(I)V" } : Jvm.MethodName)) ∈ lw_tbl := lw_at lw_m1 231 rfl
theorem q325 : (Jvm.Cond.instanceMethod ({ cls := "AntennaTuner", name := "put", desc := "(I)V" } : Jvm.MethodName)) ∈ lw_all := lw_g (lw_at lw_m1 232 rfl) rfl
theorem q326 : (Jvm.Cond.code ({ cls := "AntennaTuner", name := "put", desc := "(I)V" } : Jvm.MethodName) prog_1_method_10_code (3 : Nat) (Option.none : Option Jvm.ClassFile.FieldType)) ∈ lw_all := lw_g (lw_at lw_m1 233 rfl) rfl
theorem q328 : (Jvm.Cond.instanceMethod ({ cls := "AntennaTuner", name := "truncate", desc := "(I)I" } : Jvm.MethodName)) ∈ lw_all := lw_g (lw_at lw_m1 235 rfl) rfl
theorem q329 : (Jvm.Cond.selects "AntennaTuner" ({ cls := "AntennaTuner", name := "truncate", desc := "(I)I" } : Jvm.MethodName) ({ cls := "AntennaTuner", name := "truncate", desc := "(I)I" } : Jvm.MethodName)) ∈ lw_all := lw_g (lw_at lw_m1 236 rfl) rfl
theorem q330 : (Jvm.Cond.code ({ cls := "AntennaTuner", name := "truncate", desc := "(I)I" } : Jvm.MethodName) prog_1_method_12_code (2 : Nat) (Option.some Jvm.ClassFile.FieldType.int)) ∈ lw_all := lw_g (lw_at lw_m1 237 rfl) rfl
theorem q331 : (Jvm.Cond.methodLink "AntennaTuner" (125 : Nat) ({ cls := "AntennaTuner", name := "isIn", desc := "(III)Z" } : Jvm.MethodName)) ∈ lw_all := lw_g (lw_at lw_m1 238 rfl) rfl
theorem q332 : (Jvm.Cond.static ({ cls := "AntennaTuner", name := "isIn", desc := "(III)Z" } : Jvm.MethodName)) ∈ lw_all := lw_g (lw_at lw_m1 239 rfl) rfl
theorem q333 : (Jvm.Cond.code ({ cls := "AntennaTuner", name := "isIn", desc := "(III)Z" } : Jvm.MethodName) prog_1_method_1_code (3 : Nat) (Option.some Jvm.ClassFile.FieldType.boolean)) ∈ lw_all := lw_g (lw_at lw_m2 0 rfl) rfl
theorem q335 : (Jvm.Cond.instanceMethod ({ cls := "AntennaTuner", name := "load", desc := "()I" } : Jvm.MethodName)) ∈ lw_all := lw_g (lw_at lw_m2 2 rfl) rfl
theorem q336 : (Jvm.Cond.selects "AntennaTuner" ({ cls := "AntennaTuner", name := "load", desc := "()I" } : Jvm.MethodName) ({ cls := "AntennaTuner", name := "load", desc := "()I" } : Jvm.MethodName)) ∈ lw_all := lw_g (lw_at lw_m2 3 rfl) rfl
theorem q337 : (Jvm.Cond.codeWith ({ cls := "AntennaTuner", name := "load", desc := "()I" } : Jvm.MethodName) prog_1_method_13_code (3 : Nat) (Option.some Jvm.ClassFile.FieldType.int) [((19 : Nat), (27 : Nat), (30 : Nat), (143 : Nat))]) ∈ lw_all := lw_g (lw_at lw_m2 4 rfl) rfl
theorem q338 : (Jvm.Cond.classLink "AntennaTuner" (143 : Nat) "AntennaTuner$TextError") ∈ lw_all := lw_g (lw_at lw_m2 5 rfl) rfl
theorem q339 : (Jvm.Cond.classLink "AntennaTuner" (136 : Nat) "AntennaTuner$Parser") ∈ lw_all := lw_g (lw_at lw_m2 6 rfl) rfl
theorem q341 : (Jvm.Cond.methodLinkNest "AntennaTuner" (138 : Nat) ({ cls := "AntennaTuner$Parser", name := "<init>", desc := "(LAntennaTuner;)V" } : Jvm.MethodName) "AntennaTuner") ∈ lw_tbl := lw_at lw_m2 8 rfl
theorem q361 : (Jvm.Cond.fieldLinkNest "AntennaTuner" (272 : Nat) "AntennaTuner$Tuner" "ratedVoltage" "I" "AntennaTuner") ∈ lw_tbl := lw_at lw_m2 28 rfl
theorem q364 : (Jvm.Cond.fieldLinkNest "AntennaTuner" (275 : Nat) "AntennaTuner$Tuner" "greatestSwr" "I" "AntennaTuner") ∈ lw_tbl := lw_at lw_m2 31 rfl
theorem q366 : (Jvm.Cond.fieldLinkNest "AntennaTuner" (151 : Nat) "AntennaTuner$Tuner" "frequencies" "[I" "AntennaTuner") ∈ lw_tbl := lw_at lw_m2 33 rfl
theorem q373 : (Jvm.Cond.fieldLinkNest "AntennaTuner" (169 : Nat) "AntennaTuner$Tuner" "points" "I" "AntennaTuner") ∈ lw_tbl := lw_at lw_m2 40 rfl
theorem q377 : (Jvm.Cond.fieldLinkNest "AntennaTuner" (287 : Nat) "AntennaTuner$Tuner" "bandFrom" "[I" "AntennaTuner") ∈ lw_tbl := lw_at lw_m2 44 rfl
theorem q380 : (Jvm.Cond.fieldLinkNest "AntennaTuner" (290 : Nat) "AntennaTuner$Tuner" "bandTo" "[I" "AntennaTuner") ∈ lw_tbl := lw_at lw_m2 47 rfl
theorem q383 : (Jvm.Cond.fieldLinkNest "AntennaTuner" (284 : Nat) "AntennaTuner$Tuner" "bands" "I" "AntennaTuner") ∈ lw_tbl := lw_at lw_m2 50 rfl
theorem q439 : (Jvm.Cond.methodLink "AntennaTuner" (139 : Nat) ({ cls := "AntennaTuner$Parser", name := "parse", desc := "()LAntennaTuner$Tuner;" } : Jvm.MethodName)) ∈ lw_all := lw_g (lw_at lw_m2 106 rfl) rfl
theorem q733 : (Jvm.Cond.fieldLinkNest "AntennaTuner" (148 : Nat) "AntennaTuner$TextError" "code" "I" "AntennaTuner") ∈ lw_tbl := lw_at lw_m3 160 rfl
theorem q735 : (Jvm.Cond.fieldLinkNest "AntennaTuner" (145 : Nat) "AntennaTuner$TextError" "position" "I" "AntennaTuner") ∈ lw_tbl := lw_at lw_m3 162 rfl
theorem q778 : (Jvm.Cond.classLink "AntennaTuner" (112 : Nat) "AntennaTuner$State") ∈ lw_all := lw_g (lw_at lw_m3 205 rfl) rfl
theorem q780 : (Jvm.Cond.methodLink "AntennaTuner" (157 : Nat) ({ cls := "AntennaTuner$State", name := "<init>", desc := "(I)V" } : Jvm.MethodName)) ∈ lw_all := lw_g (lw_at lw_m3 207 rfl) rfl
theorem q810 : (Jvm.Cond.fieldLinkNest "AntennaTuner" (196 : Nat) "AntennaTuner$State" "frequency" "I" "AntennaTuner") ∈ lw_tbl := lw_at lw_m3 237 rfl
theorem q812 : (Jvm.Cond.fieldLinkNest "AntennaTuner" (202 : Nat) "AntennaTuner$State" "settings" "I" "AntennaTuner") ∈ lw_tbl := lw_at lw_m3 239 rfl
theorem q814 : (Jvm.Cond.fieldLinkNest "AntennaTuner" (296 : Nat) "AntennaTuner$State" "heat" "I" "AntennaTuner") ∈ lw_tbl := lw_at lw_m4 1 rfl
theorem q817 : (Jvm.Cond.fieldLinkNest "AntennaTuner" (312 : Nat) "AntennaTuner$State" "readings" "[I" "AntennaTuner") ∈ lw_tbl := lw_at lw_m4 4 rfl
theorem q819 : (Jvm.Cond.fieldLinkNest "AntennaTuner" (315 : Nat) "AntennaTuner$State" "fresh" "[Z" "AntennaTuner") ∈ lw_tbl := lw_at lw_m4 6 rfl
theorem q821 : (Jvm.Cond.fieldLinkNest "AntennaTuner" (309 : Nat) "AntennaTuner$State" "readingCount" "I" "AntennaTuner") ∈ lw_tbl := lw_at lw_m4 8 rfl
theorem q823 : (Jvm.Cond.fieldLinkNest "AntennaTuner" (341 : Nat) "AntennaTuner$State" "memory" "Ljava/util/ArrayList;" "AntennaTuner") ∈ lw_tbl := lw_at lw_m4 10 rfl
theorem q842 : (Jvm.Cond.methodLink "AntennaTuner" (159 : Nat) ({ cls := "java/util/ArrayDeque", name := "clear", desc := "()V" } : Jvm.MethodName)) ∈ lw_all := lw_g (lw_at lw_m4 29 rfl) rfl
theorem q850 : (Jvm.Cond.instanceMethod ({ cls := "AntennaTuner", name := "errorPosition", desc := "()I" } : Jvm.MethodName)) ∈ lw_all := lw_g (lw_at lw_m4 37 rfl) rfl
theorem q851 : (Jvm.Cond.selects "AntennaTuner" ({ cls := "AntennaTuner", name := "errorPosition", desc := "()I" } : Jvm.MethodName) ({ cls := "AntennaTuner", name := "errorPosition", desc := "()I" } : Jvm.MethodName)) ∈ lw_all := lw_g (lw_at lw_m4 38 rfl) rfl
theorem q852 : (Jvm.Cond.code ({ cls := "AntennaTuner", name := "errorPosition", desc := "()I" } : Jvm.MethodName) prog_1_method_14_code (1 : Nat) (Option.some Jvm.ClassFile.FieldType.int)) ∈ lw_all := lw_g (lw_at lw_m4 39 rfl) rfl
theorem q854 : (Jvm.Cond.instanceMethod ({ cls := "AntennaTuner", name := "antennaResistance", desc := "(I)J" } : Jvm.MethodName)) ∈ lw_all := lw_g (lw_at lw_m4 41 rfl) rfl
theorem q855 : (Jvm.Cond.selects "AntennaTuner" ({ cls := "AntennaTuner", name := "antennaResistance", desc := "(I)J" } : Jvm.MethodName) ({ cls := "AntennaTuner", name := "antennaResistance", desc := "(I)J" } : Jvm.MethodName)) ∈ lw_all := lw_g (lw_at lw_m4 42 rfl) rfl
theorem q856 : (Jvm.Cond.code ({ cls := "AntennaTuner", name := "antennaResistance", desc := "(I)J" } : Jvm.MethodName) prog_1_method_15_code (2 : Nat) (Option.some Jvm.ClassFile.FieldType.long)) ∈ lw_all := lw_g (lw_at lw_m4 43 rfl) rfl
theorem q857 : (Jvm.Cond.methodLink "AntennaTuner" (172 : Nat) ({ cls := "AntennaTuner", name := "isReady", desc := "()Z" } : Jvm.MethodName)) ∈ lw_all := lw_g (lw_at lw_m4 44 rfl) rfl
theorem q858 : (Jvm.Cond.privateMethod ({ cls := "AntennaTuner", name := "isReady", desc := "()Z" } : Jvm.MethodName)) ∈ lw_tbl := lw_at lw_m4 45 rfl
theorem q859 : (Jvm.Cond.instanceMethod ({ cls := "AntennaTuner", name := "isReady", desc := "()Z" } : Jvm.MethodName)) ∈ lw_all := lw_g (lw_at lw_m4 46 rfl) rfl
theorem q860 : (Jvm.Cond.code ({ cls := "AntennaTuner", name := "isReady", desc := "()Z" } : Jvm.MethodName) prog_1_method_6_code (1 : Nat) (Option.some Jvm.ClassFile.FieldType.boolean)) ∈ lw_all := lw_g (lw_at lw_m4 47 rfl) rfl
theorem q861 : (Jvm.Cond.methodLink "AntennaTuner" (176 : Nat) ({ cls := "AntennaTuner", name := "isFrequency", desc := "(I)Z" } : Jvm.MethodName)) ∈ lw_all := lw_g (lw_at lw_m4 48 rfl) rfl
theorem q862 : (Jvm.Cond.static ({ cls := "AntennaTuner", name := "isFrequency", desc := "(I)Z" } : Jvm.MethodName)) ∈ lw_all := lw_g (lw_at lw_m4 49 rfl) rfl
theorem q863 : (Jvm.Cond.code ({ cls := "AntennaTuner", name := "isFrequency", desc := "(I)Z" } : Jvm.MethodName) prog_1_method_8_code (1 : Nat) (Option.some Jvm.ClassFile.FieldType.boolean)) ∈ lw_all := lw_g (lw_at lw_m4 50 rfl) rfl
theorem q864 : (Jvm.Cond.methodLink "AntennaTuner" (180 : Nat) ({ cls := "AntennaTuner$Tuner", name := "resistance", desc := "(I)J" } : Jvm.MethodName)) ∈ lw_all := lw_g (lw_at lw_m4 51 rfl) rfl
theorem q872 : (Jvm.Cond.constantLong "AntennaTuner" (183 : Nat) (-1 : Int64)) ∈ lw_all := lw_g (lw_at lw_m4 59 rfl) rfl
theorem q874 : (Jvm.Cond.instanceMethod ({ cls := "AntennaTuner", name := "antennaReactance", desc := "(I)J" } : Jvm.MethodName)) ∈ lw_all := lw_g (lw_at lw_m4 61 rfl) rfl
theorem q875 : (Jvm.Cond.selects "AntennaTuner" ({ cls := "AntennaTuner", name := "antennaReactance", desc := "(I)J" } : Jvm.MethodName) ({ cls := "AntennaTuner", name := "antennaReactance", desc := "(I)J" } : Jvm.MethodName)) ∈ lw_all := lw_g (lw_at lw_m4 62 rfl) rfl
theorem q876 : (Jvm.Cond.code ({ cls := "AntennaTuner", name := "antennaReactance", desc := "(I)J" } : Jvm.MethodName) prog_1_method_16_code (2 : Nat) (Option.some Jvm.ClassFile.FieldType.long)) ∈ lw_all := lw_g (lw_at lw_m4 63 rfl) rfl
theorem q877 : (Jvm.Cond.methodLink "AntennaTuner" (185 : Nat) ({ cls := "AntennaTuner$Tuner", name := "reactance", desc := "(I)J" } : Jvm.MethodName)) ∈ lw_all := lw_g (lw_at lw_m4 64 rfl) rfl
theorem q881 : (Jvm.Cond.constantLong "AntennaTuner" (187 : Nat) (-9223372036854775808 : Int64)) ∈ lw_all := lw_g (lw_at lw_m4 68 rfl) rfl
theorem q883 : (Jvm.Cond.instanceMethod ({ cls := "AntennaTuner", name := "resonance", desc := "(I)I" } : Jvm.MethodName)) ∈ lw_all := lw_g (lw_at lw_m4 70 rfl) rfl
theorem q884 : (Jvm.Cond.selects "AntennaTuner" ({ cls := "AntennaTuner", name := "resonance", desc := "(I)I" } : Jvm.MethodName) ({ cls := "AntennaTuner", name := "resonance", desc := "(I)I" } : Jvm.MethodName)) ∈ lw_all := lw_g (lw_at lw_m4 71 rfl) rfl
theorem q885 : (Jvm.Cond.code ({ cls := "AntennaTuner", name := "resonance", desc := "(I)I" } : Jvm.MethodName) prog_1_method_17_code (9 : Nat) (Option.some Jvm.ClassFile.FieldType.int)) ∈ lw_all := lw_g (lw_at lw_m4 72 rfl) rfl
theorem q887 : (Jvm.Cond.instanceMethod ({ cls := "AntennaTuner", name := "bandOf", desc := "(I)I" } : Jvm.MethodName)) ∈ lw_all := lw_g (lw_at lw_m4 74 rfl) rfl
theorem q888 : (Jvm.Cond.selects "AntennaTuner" ({ cls := "AntennaTuner", name := "bandOf", desc := "(I)I" } : Jvm.MethodName) ({ cls := "AntennaTuner", name := "bandOf", desc := "(I)I" } : Jvm.MethodName)) ∈ lw_all := lw_g (lw_at lw_m4 75 rfl) rfl
theorem q889 : (Jvm.Cond.code ({ cls := "AntennaTuner", name := "bandOf", desc := "(I)I" } : Jvm.MethodName) prog_1_method_18_code (2 : Nat) (Option.some Jvm.ClassFile.FieldType.int)) ∈ lw_all := lw_g (lw_at lw_m4 76 rfl) rfl
theorem q890 : (Jvm.Cond.methodLink "AntennaTuner" (189 : Nat) ({ cls := "AntennaTuner$Tuner", name := "bandOf", desc := "(I)I" } : Jvm.MethodName)) ∈ lw_all := lw_g (lw_at lw_m4 77 rfl) rfl
theorem q896 : (Jvm.Cond.instanceMethod ({ cls := "AntennaTuner", name := "setFrequency", desc := "(I)I" } : Jvm.MethodName)) ∈ lw_all := lw_g (lw_at lw_m4 83 rfl) rfl
theorem q897 : (Jvm.Cond.selects "AntennaTuner" ({ cls := "AntennaTuner", name := "setFrequency", desc := "(I)I" } : Jvm.MethodName) ({ cls := "AntennaTuner", name := "setFrequency", desc := "(I)I" } : Jvm.MethodName)) ∈ lw_all := lw_g (lw_at lw_m4 84 rfl) rfl
theorem q898 : (Jvm.Cond.code ({ cls := "AntennaTuner", name := "setFrequency", desc := "(I)I" } : Jvm.MethodName) prog_1_method_19_code (3 : Nat) (Option.some Jvm.ClassFile.FieldType.int)) ∈ lw_all := lw_g (lw_at lw_m4 85 rfl) rfl
theorem q899 : (Jvm.Cond.methodLink "AntennaTuner" (193 : Nat) ({ cls := "AntennaTuner", name := "remember", desc := "()V" } : Jvm.MethodName)) ∈ lw_all := lw_g (lw_at lw_m4 86 rfl) rfl
theorem q900 : (Jvm.Cond.privateMethod ({ cls := "AntennaTuner", name := "remember", desc := "()V" } : Jvm.MethodName)) ∈ lw_tbl := lw_at lw_m4 87 rfl
theorem q901 : (Jvm.Cond.instanceMethod ({ cls := "AntennaTuner", name := "remember", desc := "()V" } : Jvm.MethodName)) ∈ lw_all := lw_g (lw_at lw_m4 88 rfl) rfl
theorem q902 : (Jvm.Cond.code ({ cls := "AntennaTuner", name := "remember", desc := "()V" } : Jvm.MethodName) prog_1_method_7_code (1 : Nat) (Option.none : Option Jvm.ClassFile.FieldType)) ∈ lw_all := lw_g (lw_at lw_m4 89 rfl) rfl
theorem q903 : (Jvm.Cond.methodLink "AntennaTuner" (104 : Nat) ({ cls := "java/util/ArrayDeque", name := "size", desc := "()I" } : Jvm.MethodName)) ∈ lw_all := lw_g (lw_at lw_m4 90 rfl) rfl
theorem q910 : (Jvm.Cond.methodLink "AntennaTuner" (108 : Nat) ({ cls := "java/util/ArrayDeque", name := "removeFirst", desc := "()Ljava/lang/Object;" } : Jvm.MethodName)) ∈ lw_all := lw_g (lw_at lw_m4 97 rfl) rfl
theorem q924 : (Jvm.Cond.methodLink "AntennaTuner" (118 : Nat) ({ cls := "AntennaTuner$State", name := "<init>", desc := "(LAntennaTuner$State;)V" } : Jvm.MethodName)) ∈ lw_all := lw_g (lw_at lw_m4 111 rfl) rfl
theorem q979 : (Jvm.Cond.selects "AntennaTuner" ({ cls := "java/lang/Object", name := "getClass", desc := "()Ljava/lang/Class;" } : Jvm.MethodName) ({ cls := "java/lang/Object", name := "getClass", desc := "()Ljava/lang/Class;" } : Jvm.MethodName)) ∈ lw_all := lw_g (lw_at lw_m4 166 rfl) rfl
theorem q1007 : (Jvm.Cond.methodLink "AntennaTuner" (121 : Nat) ({ cls := "java/util/ArrayDeque", name := "addLast", desc := "(Ljava/lang/Object;)V" } : Jvm.MethodName)) ∈ lw_all := lw_g (lw_at lw_m4 194 rfl) rfl
theorem q1023 : (Jvm.Cond.methodLink "AntennaTuner" (199 : Nat) ({ cls := "AntennaTuner$State", name := "setFrequency", desc := "(I)V" } : Jvm.MethodName)) ∈ lw_all := lw_g (lw_at lw_m4 210 rfl) rfl
theorem q1032 : (Jvm.Cond.instanceMethod ({ cls := "AntennaTuner", name := "setSide", desc := "(I)I" } : Jvm.MethodName)) ∈ lw_all := lw_g (lw_at lw_m4 219 rfl) rfl
theorem q1033 : (Jvm.Cond.selects "AntennaTuner" ({ cls := "AntennaTuner", name := "setSide", desc := "(I)I" } : Jvm.MethodName) ({ cls := "AntennaTuner", name := "setSide", desc := "(I)I" } : Jvm.MethodName)) ∈ lw_all := lw_g (lw_at lw_m4 220 rfl) rfl
theorem q1034 : (Jvm.Cond.code ({ cls := "AntennaTuner", name := "setSide", desc := "(I)I" } : Jvm.MethodName) prog_1_method_22_code (3 : Nat) (Option.some Jvm.ClassFile.FieldType.int)) ∈ lw_all := lw_g (lw_at lw_m4 221 rfl) rfl
theorem q1035 : (Jvm.Cond.methodLink "AntennaTuner" (216 : Nat) ({ cls := "AntennaTuner", name := "present", desc := "()LAntennaTuner$Setting;" } : Jvm.MethodName)) ∈ lw_all := lw_g (lw_at lw_m4 222 rfl) rfl
theorem q1036 : (Jvm.Cond.privateMethod ({ cls := "AntennaTuner", name := "present", desc := "()LAntennaTuner$Setting;" } : Jvm.MethodName)) ∈ lw_tbl := lw_at lw_m4 223 rfl
theorem q1037 : (Jvm.Cond.instanceMethod ({ cls := "AntennaTuner", name := "present", desc := "()LAntennaTuner$Setting;" } : Jvm.MethodName)) ∈ lw_all := lw_g (lw_at lw_m4 224 rfl) rfl
theorem q1038 : (Jvm.Cond.code ({ cls := "AntennaTuner", name := "present", desc := "()LAntennaTuner$Setting;" } : Jvm.MethodName) prog_1_method_20_code (1 : Nat) (Option.some (Jvm.ClassFile.FieldType.object "AntennaTuner$Setting"))) ∈ lw_all := lw_g (lw_at lw_m4 225 rfl) rfl
theorem q1039 : (Jvm.Cond.methodLink "AntennaTuner" (205 : Nat) ({ cls := "AntennaTuner$Setting", name := "of", desc := "(I)LAntennaTuner$Setting;" } : Jvm.MethodName)) ∈ lw_all := lw_g (lw_at lw_m4 226 rfl) rfl
theorem q1044 : (Jvm.Cond.methodLink "AntennaTuner" (228 : Nat) ({ cls := "AntennaTuner", name := "change", desc := "(LAntennaTuner$Setting;)V" } : Jvm.MethodName)) ∈ lw_all := lw_g (lw_at lw_m4 231 rfl) rfl
theorem q1045 : (Jvm.Cond.privateMethod ({ cls := "AntennaTuner", name := "change", desc := "(LAntennaTuner$Setting;)V" } : Jvm.MethodName)) ∈ lw_tbl := lw_at lw_m4 232 rfl
theorem q1046 : (Jvm.Cond.instanceMethod ({ cls := "AntennaTuner", name := "change", desc := "(LAntennaTuner$Setting;)V" } : Jvm.MethodName)) ∈ lw_all := lw_g (lw_at lw_m4 233 rfl) rfl
theorem q1047 : (Jvm.Cond.code ({ cls := "AntennaTuner", name := "change", desc := "(LAntennaTuner$Setting;)V" } : Jvm.MethodName) prog_1_method_21_code (2 : Nat) (Option.none : Option Jvm.ClassFile.FieldType)) ∈ lw_all := lw_g (lw_at lw_m4 234 rfl) rfl
theorem q1048 : (Jvm.Cond.methodLink "AntennaTuner" (211 : Nat) ({ cls := "AntennaTuner$Setting", name := "code", desc := "()I" } : Jvm.MethodName)) ∈ lw_all := lw_g (lw_at lw_m4 235 rfl) rfl
theorem q1052 : (Jvm.Cond.methodLink "AntennaTuner" (213 : Nat) ({ cls := "AntennaTuner$State", name := "setSettings", desc := "(I)V" } : Jvm.MethodName)) ∈ lw_all := lw_g (lw_at lw_m4 239 rfl) rfl
theorem q1057 : (Jvm.Cond.instanceMethod ({ cls := "AntennaTuner", name := "setCoil", desc := "(I)I" } : Jvm.MethodName)) ∈ lw_all := lw_g (lw_at lw_m5 4 rfl) rfl
theorem q1058 : (Jvm.Cond.selects "AntennaTuner" ({ cls := "AntennaTuner", name := "setCoil", desc := "(I)I" } : Jvm.MethodName) ({ cls := "AntennaTuner", name := "setCoil", desc := "(I)I" } : Jvm.MethodName)) ∈ lw_all := lw_g (lw_at lw_m5 5 rfl) rfl
theorem q1059 : (Jvm.Cond.code ({ cls := "AntennaTuner", name := "setCoil", desc := "(I)I" } : Jvm.MethodName) prog_1_method_23_code (3 : Nat) (Option.some Jvm.ClassFile.FieldType.int)) ∈ lw_all := lw_g (lw_at lw_m5 6 rfl) rfl
theorem q1060 : (Jvm.Cond.methodLink "AntennaTuner" (235 : Nat) ({ cls := "AntennaTuner", name := "isSetting", desc := "(I)Z" } : Jvm.MethodName)) ∈ lw_all := lw_g (lw_at lw_m5 7 rfl) rfl
theorem q1061 : (Jvm.Cond.static ({ cls := "AntennaTuner", name := "isSetting", desc := "(I)Z" } : Jvm.MethodName)) ∈ lw_all := lw_g (lw_at lw_m5 8 rfl) rfl
theorem q1062 : (Jvm.Cond.code ({ cls := "AntennaTuner", name := "isSetting", desc := "(I)Z" } : Jvm.MethodName) prog_1_method_9_code (1 : Nat) (Option.some Jvm.ClassFile.FieldType.boolean)) ∈ lw_all := lw_g (lw_at lw_m5 9 rfl) rfl
theorem q1064 : (Jvm.Cond.instanceMethod ({ cls := "AntennaTuner", name := "setCapacitor", desc := "(I)I" } : Jvm.MethodName)) ∈ lw_all := lw_g (lw_at lw_m5 11 rfl) rfl
theorem q1065 : (Jvm.Cond.selects "AntennaTuner" ({ cls := "AntennaTuner", name := "setCapacitor", desc := "(I)I" } : Jvm.MethodName) ({ cls := "AntennaTuner", name := "setCapacitor", desc := "(I)I" } : Jvm.MethodName)) ∈ lw_all := lw_g (lw_at lw_m5 12 rfl) rfl
theorem q1066 : (Jvm.Cond.code ({ cls := "AntennaTuner", name := "setCapacitor", desc := "(I)I" } : Jvm.MethodName) prog_1_method_24_code (3 : Nat) (Option.some Jvm.ClassFile.FieldType.int)) ∈ lw_all := lw_g (lw_at lw_m5 13 rfl) rfl
theorem q1068 : (Jvm.Cond.instanceMethod ({ cls := "AntennaTuner", name := "frequency", desc := "()I" } : Jvm.MethodName)) ∈ lw_all := lw_g (lw_at lw_m5 15 rfl) rfl
theorem q1069 : (Jvm.Cond.selects "AntennaTuner" ({ cls := "AntennaTuner", name := "frequency", desc := "()I" } : Jvm.MethodName) ({ cls := "AntennaTuner", name := "frequency", desc := "()I" } : Jvm.MethodName)) ∈ lw_all := lw_g (lw_at lw_m5 16 rfl) rfl
theorem q1070 : (Jvm.Cond.code ({ cls := "AntennaTuner", name := "frequency", desc := "()I" } : Jvm.MethodName) prog_1_method_25_code (1 : Nat) (Option.some Jvm.ClassFile.FieldType.int)) ∈ lw_all := lw_g (lw_at lw_m5 17 rfl) rfl
theorem q1072 : (Jvm.Cond.instanceMethod ({ cls := "AntennaTuner", name := "settings", desc := "()I" } : Jvm.MethodName)) ∈ lw_all := lw_g (lw_at lw_m5 19 rfl) rfl
theorem q1073 : (Jvm.Cond.selects "AntennaTuner" ({ cls := "AntennaTuner", name := "settings", desc := "()I" } : Jvm.MethodName) ({ cls := "AntennaTuner", name := "settings", desc := "()I" } : Jvm.MethodName)) ∈ lw_all := lw_g (lw_at lw_m5 20 rfl) rfl
theorem q1074 : (Jvm.Cond.code ({ cls := "AntennaTuner", name := "settings", desc := "()I" } : Jvm.MethodName) prog_1_method_26_code (1 : Nat) (Option.some Jvm.ClassFile.FieldType.int)) ∈ lw_all := lw_g (lw_at lw_m5 21 rfl) rfl
theorem q1076 : (Jvm.Cond.instanceMethod ({ cls := "AntennaTuner", name := "relaysTo", desc := "(III)I" } : Jvm.MethodName)) ∈ lw_all := lw_g (lw_at lw_m5 23 rfl) rfl
theorem q1077 : (Jvm.Cond.selects "AntennaTuner" ({ cls := "AntennaTuner", name := "relaysTo", desc := "(III)I" } : Jvm.MethodName) ({ cls := "AntennaTuner", name := "relaysTo", desc := "(III)I" } : Jvm.MethodName)) ∈ lw_all := lw_g (lw_at lw_m5 24 rfl) rfl
theorem q1078 : (Jvm.Cond.code ({ cls := "AntennaTuner", name := "relaysTo", desc := "(III)I" } : Jvm.MethodName) prog_1_method_28_code (4 : Nat) (Option.some Jvm.ClassFile.FieldType.int)) ∈ lw_all := lw_g (lw_at lw_m5 25 rfl) rfl
theorem q1079 : (Jvm.Cond.methodLink "AntennaTuner" (238 : Nat) ({ cls := "AntennaTuner", name := "areSettings", desc := "(III)Z" } : Jvm.MethodName)) ∈ lw_all := lw_g (lw_at lw_m5 26 rfl) rfl
theorem q1080 : (Jvm.Cond.privateMethod ({ cls := "AntennaTuner", name := "areSettings", desc := "(III)Z" } : Jvm.MethodName)) ∈ lw_tbl := lw_at lw_m5 27 rfl
theorem q1081 : (Jvm.Cond.instanceMethod ({ cls := "AntennaTuner", name := "areSettings", desc := "(III)Z" } : Jvm.MethodName)) ∈ lw_all := lw_g (lw_at lw_m5 28 rfl) rfl
theorem q1082 : (Jvm.Cond.code ({ cls := "AntennaTuner", name := "areSettings", desc := "(III)Z" } : Jvm.MethodName) prog_1_method_27_code (4 : Nat) (Option.some Jvm.ClassFile.FieldType.boolean)) ∈ lw_all := lw_g (lw_at lw_m5 29 rfl) rfl
theorem q1083 : (Jvm.Cond.methodLink "AntennaTuner" (241 : Nat) ({ cls := "java/lang/Integer", name := "bitCount", desc := "(I)I" } : Jvm.MethodName)) ∈ lw_all := lw_g (lw_at lw_m5 30 rfl) rfl
theorem q1090 : (Jvm.Cond.instanceMethod ({ cls := "AntennaTuner", name := "inputResistance", desc := "()J" } : Jvm.MethodName)) ∈ lw_all := lw_g (lw_at lw_m5 37 rfl) rfl
theorem q1091 : (Jvm.Cond.selects "AntennaTuner" ({ cls := "AntennaTuner", name := "inputResistance", desc := "()J" } : Jvm.MethodName) ({ cls := "AntennaTuner", name := "inputResistance", desc := "()J" } : Jvm.MethodName)) ∈ lw_all := lw_g (lw_at lw_m5 38 rfl) rfl
theorem q1092 : (Jvm.Cond.code ({ cls := "AntennaTuner", name := "inputResistance", desc := "()J" } : Jvm.MethodName) prog_1_method_30_code (1 : Nat) (Option.some Jvm.ClassFile.FieldType.long)) ∈ lw_all := lw_g (lw_at lw_m5 39 rfl) rfl
theorem q1093 : (Jvm.Cond.methodLink "AntennaTuner" (250 : Nat) ({ cls := "AntennaTuner", name := "here", desc := "()LAntennaTuner$Circuit;" } : Jvm.MethodName)) ∈ lw_all := lw_g (lw_at lw_m5 40 rfl) rfl
theorem q1094 : (Jvm.Cond.privateMethod ({ cls := "AntennaTuner", name := "here", desc := "()LAntennaTuner$Circuit;" } : Jvm.MethodName)) ∈ lw_tbl := lw_at lw_m5 41 rfl
theorem q1095 : (Jvm.Cond.instanceMethod ({ cls := "AntennaTuner", name := "here", desc := "()LAntennaTuner$Circuit;" } : Jvm.MethodName)) ∈ lw_all := lw_g (lw_at lw_m5 42 rfl) rfl
theorem q1096 : (Jvm.Cond.code ({ cls := "AntennaTuner", name := "here", desc := "()LAntennaTuner$Circuit;" } : Jvm.MethodName) prog_1_method_29_code (1 : Nat) (Option.some (Jvm.ClassFile.FieldType.object "AntennaTuner$Circuit"))) ∈ lw_all := lw_g (lw_at lw_m5 43 rfl) rfl
theorem q1097 : (Jvm.Cond.methodLink "AntennaTuner" (246 : Nat) ({ cls := "AntennaTuner$Circuit", name := "lay", desc := "(II)LAntennaTuner$Circuit;" } : Jvm.MethodName)) ∈ lw_all := lw_g (lw_at lw_m5 44 rfl) rfl
theorem q1112 : (Jvm.Cond.instanceMethod ({ cls := "AntennaTuner", name := "inputReactance", desc := "()J" } : Jvm.MethodName)) ∈ lw_all := lw_g (lw_at lw_m5 59 rfl) rfl
theorem q1113 : (Jvm.Cond.selects "AntennaTuner" ({ cls := "AntennaTuner", name := "inputReactance", desc := "()J" } : Jvm.MethodName) ({ cls := "AntennaTuner", name := "inputReactance", desc := "()J" } : Jvm.MethodName)) ∈ lw_all := lw_g (lw_at lw_m5 60 rfl) rfl
theorem q1114 : (Jvm.Cond.code ({ cls := "AntennaTuner", name := "inputReactance", desc := "()J" } : Jvm.MethodName) prog_1_method_31_code (1 : Nat) (Option.some Jvm.ClassFile.FieldType.long)) ∈ lw_all := lw_g (lw_at lw_m5 61 rfl) rfl
theorem q1116 : (Jvm.Cond.instanceMethod ({ cls := "AntennaTuner", name := "swr", desc := "()I" } : Jvm.MethodName)) ∈ lw_all := lw_g (lw_at lw_m5 63 rfl) rfl
theorem q1117 : (Jvm.Cond.selects "AntennaTuner" ({ cls := "AntennaTuner", name := "swr", desc := "()I" } : Jvm.MethodName) ({ cls := "AntennaTuner", name := "swr", desc := "()I" } : Jvm.MethodName)) ∈ lw_all := lw_g (lw_at lw_m5 64 rfl) rfl
theorem q1118 : (Jvm.Cond.code ({ cls := "AntennaTuner", name := "swr", desc := "()I" } : Jvm.MethodName) prog_1_method_32_code (1 : Nat) (Option.some Jvm.ClassFile.FieldType.int)) ∈ lw_all := lw_g (lw_at lw_m5 65 rfl) rfl
theorem q1119 : (Jvm.Cond.methodLink "AntennaTuner" (254 : Nat) ({ cls := "AntennaTuner$Circuit", name := "swr", desc := "()I" } : Jvm.MethodName)) ∈ lw_all := lw_g (lw_at lw_m5 66 rfl) rfl
theorem q1129 : (Jvm.Cond.static ({ cls := "AntennaTuner", name := "root", desc := "(J)J" } : Jvm.MethodName)) ∈ lw_all := lw_g (lw_at lw_m5 76 rfl) rfl
theorem q1130 : (Jvm.Cond.code ({ cls := "AntennaTuner", name := "root", desc := "(J)J" } : Jvm.MethodName) prog_1_method_2_code (8 : Nat) (Option.some Jvm.ClassFile.FieldType.long)) ∈ lw_all := lw_g (lw_at lw_m5 77 rfl) rfl
theorem q1131 : (Jvm.Cond.constantLong "AntennaTuner" (3 : Nat) (3037000499 : Int64)) ∈ lw_all := lw_g (lw_at lw_m5 78 rfl) rfl
theorem q1132 : (Jvm.Cond.constantLong "AntennaTuner" (5 : Nat) (2 : Int64)) ∈ lw_all := lw_g (lw_at lw_m5 79 rfl) rfl
theorem q1137 : (Jvm.Cond.instanceMethod ({ cls := "AntennaTuner", name := "swrAt", desc := "(I)I" } : Jvm.MethodName)) ∈ lw_all := lw_g (lw_at lw_m5 84 rfl) rfl
theorem q1138 : (Jvm.Cond.selects "AntennaTuner" ({ cls := "AntennaTuner", name := "swrAt", desc := "(I)I" } : Jvm.MethodName) ({ cls := "AntennaTuner", name := "swrAt", desc := "(I)I" } : Jvm.MethodName)) ∈ lw_all := lw_g (lw_at lw_m5 85 rfl) rfl
theorem q1139 : (Jvm.Cond.code ({ cls := "AntennaTuner", name := "swrAt", desc := "(I)I" } : Jvm.MethodName) prog_1_method_34_code (2 : Nat) (Option.some Jvm.ClassFile.FieldType.int)) ∈ lw_all := lw_g (lw_at lw_m5 86 rfl) rfl
theorem q1140 : (Jvm.Cond.methodLink "AntennaTuner" (257 : Nat) ({ cls := "AntennaTuner", name := "swrOf", desc := "(I)I" } : Jvm.MethodName)) ∈ lw_all := lw_g (lw_at lw_m5 87 rfl) rfl
theorem q1141 : (Jvm.Cond.privateMethod ({ cls := "AntennaTuner", name := "swrOf", desc := "(I)I" } : Jvm.MethodName)) ∈ lw_tbl := lw_at lw_m5 88 rfl
theorem q1142 : (Jvm.Cond.instanceMethod ({ cls := "AntennaTuner", name := "swrOf", desc := "(I)I" } : Jvm.MethodName)) ∈ lw_all := lw_g (lw_at lw_m5 89 rfl) rfl
theorem q1143 : (Jvm.Cond.code ({ cls := "AntennaTuner", name := "swrOf", desc := "(I)I" } : Jvm.MethodName) prog_1_method_33_code (2 : Nat) (Option.some Jvm.ClassFile.FieldType.int)) ∈ lw_all := lw_g (lw_at lw_m5 90 rfl) rfl
theorem q1145 : (Jvm.Cond.instanceMethod ({ cls := "AntennaTuner", name := "swrWith", desc := "(III)I" } : Jvm.MethodName)) ∈ lw_all := lw_g (lw_at lw_m5 92 rfl) rfl
theorem q1146 : (Jvm.Cond.selects "AntennaTuner" ({ cls := "AntennaTuner", name := "swrWith", desc := "(III)I" } : Jvm.MethodName) ({ cls := "AntennaTuner", name := "swrWith", desc := "(III)I" } : Jvm.MethodName)) ∈ lw_all := lw_g (lw_at lw_m5 93 rfl) rfl
theorem q1147 : (Jvm.Cond.code ({ cls := "AntennaTuner", name := "swrWith", desc := "(III)I" } : Jvm.MethodName) prog_1_method_36_code (4 : Nat) (Option.some Jvm.ClassFile.FieldType.int)) ∈ lw_all := lw_g (lw_at lw_m5 94 rfl) rfl
theorem q1148 : (Jvm.Cond.methodLink "AntennaTuner" (260 : Nat) ({ cls := "AntennaTuner", name := "swrBy", desc := "(I)I" } : Jvm.MethodName)) ∈ lw_all := lw_g (lw_at lw_m5 95 rfl) rfl
theorem q1149 : (Jvm.Cond.privateMethod ({ cls := "AntennaTuner", name := "swrBy", desc := "(I)I" } : Jvm.MethodName)) ∈ lw_tbl := lw_at lw_m5 96 rfl
theorem q1150 : (Jvm.Cond.instanceMethod ({ cls := "AntennaTuner", name := "swrBy", desc := "(I)I" } : Jvm.MethodName)) ∈ lw_all := lw_g (lw_at lw_m5 97 rfl) rfl
theorem q1151 : (Jvm.Cond.code ({ cls := "AntennaTuner", name := "swrBy", desc := "(I)I" } : Jvm.MethodName) prog_1_method_35_code (2 : Nat) (Option.some Jvm.ClassFile.FieldType.int)) ∈ lw_all := lw_g (lw_at lw_m5 98 rfl) rfl
theorem q1153 : (Jvm.Cond.instanceMethod ({ cls := "AntennaTuner", name := "efficiency", desc := "()I" } : Jvm.MethodName)) ∈ lw_all := lw_g (lw_at lw_m5 100 rfl) rfl
theorem q1154 : (Jvm.Cond.selects "AntennaTuner" ({ cls := "AntennaTuner", name := "efficiency", desc := "()I" } : Jvm.MethodName) ({ cls := "AntennaTuner", name := "efficiency", desc := "()I" } : Jvm.MethodName)) ∈ lw_all := lw_g (lw_at lw_m5 101 rfl) rfl
theorem q1155 : (Jvm.Cond.code ({ cls := "AntennaTuner", name := "efficiency", desc := "()I" } : Jvm.MethodName) prog_1_method_37_code (1 : Nat) (Option.some Jvm.ClassFile.FieldType.int)) ∈ lw_all := lw_g (lw_at lw_m5 102 rfl) rfl
theorem q1156 : (Jvm.Cond.methodLink "AntennaTuner" (263 : Nat) ({ cls := "AntennaTuner$Circuit", name := "efficiency", desc := "()I" } : Jvm.MethodName)) ∈ lw_all := lw_g (lw_at lw_m5 103 rfl) rfl
theorem q1162 : (Jvm.Cond.instanceMethod ({ cls := "AntennaTuner", name := "capacitorVoltage", desc := "()I" } : Jvm.MethodName)) ∈ lw_all := lw_g (lw_at lw_m5 109 rfl) rfl
theorem q1163 : (Jvm.Cond.selects "AntennaTuner" ({ cls := "AntennaTuner", name := "capacitorVoltage", desc := "()I" } : Jvm.MethodName) ({ cls := "AntennaTuner", name := "capacitorVoltage", desc := "()I" } : Jvm.MethodName)) ∈ lw_all := lw_g (lw_at lw_m5 110 rfl) rfl
theorem q1164 : (Jvm.Cond.code ({ cls := "AntennaTuner", name := "capacitorVoltage", desc := "()I" } : Jvm.MethodName) prog_1_method_38_code (1 : Nat) (Option.some Jvm.ClassFile.FieldType.int)) ∈ lw_all := lw_g (lw_at lw_m5 111 rfl) rfl
theorem q1165 : (Jvm.Cond.methodLink "AntennaTuner" (266 : Nat) ({ cls := "AntennaTuner$Circuit", name := "voltage", desc := "()I" } : Jvm.MethodName)) ∈ lw_all := lw_g (lw_at lw_m5 112 rfl) rfl
theorem q1181 : (Jvm.Cond.instanceMethod ({ cls := "AntennaTuner", name := "greatestPower", desc := "()I" } : Jvm.MethodName)) ∈ lw_all := lw_g (lw_at lw_m5 128 rfl) rfl
theorem q1182 : (Jvm.Cond.selects "AntennaTuner" ({ cls := "AntennaTuner", name := "greatestPower", desc := "()I" } : Jvm.MethodName) ({ cls := "AntennaTuner", name := "greatestPower", desc := "()I" } : Jvm.MethodName)) ∈ lw_all := lw_g (lw_at lw_m5 129 rfl) rfl
theorem q1183 : (Jvm.Cond.code ({ cls := "AntennaTuner", name := "greatestPower", desc := "()I" } : Jvm.MethodName) prog_1_method_39_code (2 : Nat) (Option.some Jvm.ClassFile.FieldType.int)) ∈ lw_all := lw_g (lw_at lw_m5 130 rfl) rfl
theorem q1184 : (Jvm.Cond.methodLink "AntennaTuner" (269 : Nat) ({ cls := "AntennaTuner$Circuit", name := "voltageWith", desc := "(I)I" } : Jvm.MethodName)) ∈ lw_all := lw_g (lw_at lw_m5 131 rfl) rfl
theorem q1186 : (Jvm.Cond.instanceMethod ({ cls := "AntennaTuner", name := "highestMatched", desc := "()I" } : Jvm.MethodName)) ∈ lw_all := lw_g (lw_at lw_m5 133 rfl) rfl
theorem q1187 : (Jvm.Cond.selects "AntennaTuner" ({ cls := "AntennaTuner", name := "highestMatched", desc := "()I" } : Jvm.MethodName) ({ cls := "AntennaTuner", name := "highestMatched", desc := "()I" } : Jvm.MethodName)) ∈ lw_all := lw_g (lw_at lw_m5 134 rfl) rfl
theorem q1188 : (Jvm.Cond.code ({ cls := "AntennaTuner", name := "highestMatched", desc := "()I" } : Jvm.MethodName) prog_1_method_42_code (1 : Nat) (Option.some Jvm.ClassFile.FieldType.int)) ∈ lw_all := lw_g (lw_at lw_m5 135 rfl) rfl
theorem q1189 : (Jvm.Cond.methodLink "AntennaTuner" (281 : Nat) ({ cls := "AntennaTuner", name := "farthestMatched", desc := "(I)I" } : Jvm.MethodName)) ∈ lw_all := lw_g (lw_at lw_m5 136 rfl) rfl
theorem q1190 : (Jvm.Cond.privateMethod ({ cls := "AntennaTuner", name := "farthestMatched", desc := "(I)I" } : Jvm.MethodName)) ∈ lw_tbl := lw_at lw_m5 137 rfl
theorem q1191 : (Jvm.Cond.instanceMethod ({ cls := "AntennaTuner", name := "farthestMatched", desc := "(I)I" } : Jvm.MethodName)) ∈ lw_all := lw_g (lw_at lw_m5 138 rfl) rfl
theorem q1192 : (Jvm.Cond.code ({ cls := "AntennaTuner", name := "farthestMatched", desc := "(I)I" } : Jvm.MethodName) prog_1_method_41_code (3 : Nat) (Option.some Jvm.ClassFile.FieldType.int)) ∈ lw_all := lw_g (lw_at lw_m5 139 rfl) rfl
theorem q1193 : (Jvm.Cond.methodLink "AntennaTuner" (278 : Nat) ({ cls := "AntennaTuner", name := "isMatched", desc := "(I)Z" } : Jvm.MethodName)) ∈ lw_all := lw_g (lw_at lw_m5 140 rfl) rfl
theorem q1194 : (Jvm.Cond.privateMethod ({ cls := "AntennaTuner", name := "isMatched", desc := "(I)Z" } : Jvm.MethodName)) ∈ lw_tbl := lw_at lw_m5 141 rfl
theorem q1195 : (Jvm.Cond.instanceMethod ({ cls := "AntennaTuner", name := "isMatched", desc := "(I)Z" } : Jvm.MethodName)) ∈ lw_all := lw_g (lw_at lw_m5 142 rfl) rfl
theorem q1196 : (Jvm.Cond.code ({ cls := "AntennaTuner", name := "isMatched", desc := "(I)Z" } : Jvm.MethodName) prog_1_method_40_code (2 : Nat) (Option.some Jvm.ClassFile.FieldType.boolean)) ∈ lw_all := lw_g (lw_at lw_m5 143 rfl) rfl
theorem q1198 : (Jvm.Cond.instanceMethod ({ cls := "AntennaTuner", name := "lowestMatched", desc := "()I" } : Jvm.MethodName)) ∈ lw_all := lw_g (lw_at lw_m5 145 rfl) rfl
theorem q1199 : (Jvm.Cond.selects "AntennaTuner" ({ cls := "AntennaTuner", name := "lowestMatched", desc := "()I" } : Jvm.MethodName) ({ cls := "AntennaTuner", name := "lowestMatched", desc := "()I" } : Jvm.MethodName)) ∈ lw_all := lw_g (lw_at lw_m5 146 rfl) rfl
theorem q1200 : (Jvm.Cond.code ({ cls := "AntennaTuner", name := "lowestMatched", desc := "()I" } : Jvm.MethodName) prog_1_method_43_code (1 : Nat) (Option.some Jvm.ClassFile.FieldType.int)) ∈ lw_all := lw_g (lw_at lw_m5 147 rfl) rfl
theorem q1202 : (Jvm.Cond.instanceMethod ({ cls := "AntennaTuner", name := "worstInBand", desc := "(I)I" } : Jvm.MethodName)) ∈ lw_all := lw_g (lw_at lw_m5 149 rfl) rfl
theorem q1203 : (Jvm.Cond.selects "AntennaTuner" ({ cls := "AntennaTuner", name := "worstInBand", desc := "(I)I" } : Jvm.MethodName) ({ cls := "AntennaTuner", name := "worstInBand", desc := "(I)I" } : Jvm.MethodName)) ∈ lw_all := lw_g (lw_at lw_m5 150 rfl) rfl
theorem q1204 : (Jvm.Cond.code ({ cls := "AntennaTuner", name := "worstInBand", desc := "(I)I" } : Jvm.MethodName) prog_1_method_44_code (6 : Nat) (Option.some Jvm.ClassFile.FieldType.int)) ∈ lw_all := lw_g (lw_at lw_m5 151 rfl) rfl
theorem q1206 : (Jvm.Cond.instanceMethod ({ cls := "AntennaTuner", name := "transmit", desc := "(I)I" } : Jvm.MethodName)) ∈ lw_all := lw_g (lw_at lw_m5 153 rfl) rfl
theorem q1207 : (Jvm.Cond.selects "AntennaTuner" ({ cls := "AntennaTuner", name := "transmit", desc := "(I)I" } : Jvm.MethodName) ({ cls := "AntennaTuner", name := "transmit", desc := "(I)I" } : Jvm.MethodName)) ∈ lw_all := lw_g (lw_at lw_m5 154 rfl) rfl
theorem q1208 : (Jvm.Cond.code ({ cls := "AntennaTuner", name := "transmit", desc := "(I)I" } : Jvm.MethodName) prog_1_method_45_code (7 : Nat) (Option.some Jvm.ClassFile.FieldType.int)) ∈ lw_all := lw_g (lw_at lw_m5 155 rfl) rfl
theorem q1209 : (Jvm.Cond.methodLink "AntennaTuner" (293 : Nat) ({ cls := "AntennaTuner$Circuit", name := "isOverloaded", desc := "()Z" } : Jvm.MethodName)) ∈ lw_all := lw_g (lw_at lw_m5 156 rfl) rfl
theorem q1214 : (Jvm.Cond.constant "AntennaTuner" (299 : Nat) (99999 : Int32)) ∈ lw_all := lw_g (lw_at lw_m5 161 rfl) rfl
theorem q1215 : (Jvm.Cond.methodLink "AntennaTuner" (300 : Nat) ({ cls := "java/lang/Math", name := "min", desc := "(II)I" } : Jvm.MethodName)) ∈ lw_all := lw_g (lw_at lw_m5 162 rfl) rfl
theorem q1216 : (Jvm.Cond.methodLink "AntennaTuner" (306 : Nat) ({ cls := "AntennaTuner$State", name := "record", desc := "(I)V" } : Jvm.MethodName)) ∈ lw_all := lw_g (lw_at lw_m5 163 rfl) rfl
theorem q1222 : (Jvm.Cond.instanceMethod ({ cls := "AntennaTuner", name := "readingCount", desc := "()I" } : Jvm.MethodName)) ∈ lw_all := lw_g (lw_at lw_m5 169 rfl) rfl
theorem q1223 : (Jvm.Cond.selects "AntennaTuner" ({ cls := "AntennaTuner", name := "readingCount", desc := "()I" } : Jvm.MethodName) ({ cls := "AntennaTuner", name := "readingCount", desc := "()I" } : Jvm.MethodName)) ∈ lw_all := lw_g (lw_at lw_m5 170 rfl) rfl
theorem q1224 : (Jvm.Cond.code ({ cls := "AntennaTuner", name := "readingCount", desc := "()I" } : Jvm.MethodName) prog_1_method_46_code (1 : Nat) (Option.some Jvm.ClassFile.FieldType.int)) ∈ lw_all := lw_g (lw_at lw_m5 171 rfl) rfl
theorem q1226 : (Jvm.Cond.instanceMethod ({ cls := "AntennaTuner", name := "reading", desc := "(I)I" } : Jvm.MethodName)) ∈ lw_all := lw_g (lw_at lw_m5 173 rfl) rfl
theorem q1227 : (Jvm.Cond.selects "AntennaTuner" ({ cls := "AntennaTuner", name := "reading", desc := "(I)I" } : Jvm.MethodName) ({ cls := "AntennaTuner", name := "reading", desc := "(I)I" } : Jvm.MethodName)) ∈ lw_all := lw_g (lw_at lw_m5 174 rfl) rfl
theorem q1228 : (Jvm.Cond.code ({ cls := "AntennaTuner", name := "reading", desc := "(I)I" } : Jvm.MethodName) prog_1_method_47_code (2 : Nat) (Option.some Jvm.ClassFile.FieldType.int)) ∈ lw_all := lw_g (lw_at lw_m5 175 rfl) rfl
theorem q1230 : (Jvm.Cond.instanceMethod ({ cls := "AntennaTuner", name := "heat", desc := "()I" } : Jvm.MethodName)) ∈ lw_all := lw_g (lw_at lw_m5 177 rfl) rfl
theorem q1231 : (Jvm.Cond.selects "AntennaTuner" ({ cls := "AntennaTuner", name := "heat", desc := "()I" } : Jvm.MethodName) ({ cls := "AntennaTuner", name := "heat", desc := "()I" } : Jvm.MethodName)) ∈ lw_all := lw_g (lw_at lw_m5 178 rfl) rfl
theorem q1232 : (Jvm.Cond.code ({ cls := "AntennaTuner", name := "heat", desc := "()I" } : Jvm.MethodName) prog_1_method_48_code (1 : Nat) (Option.some Jvm.ClassFile.FieldType.int)) ∈ lw_all := lw_g (lw_at lw_m5 179 rfl) rfl
theorem q1234 : (Jvm.Cond.instanceMethod ({ cls := "AntennaTuner", name := "arcsNoticed", desc := "(I)I" } : Jvm.MethodName)) ∈ lw_all := lw_g (lw_at lw_m5 181 rfl) rfl
theorem q1235 : (Jvm.Cond.selects "AntennaTuner" ({ cls := "AntennaTuner", name := "arcsNoticed", desc := "(I)I" } : Jvm.MethodName) ({ cls := "AntennaTuner", name := "arcsNoticed", desc := "(I)I" } : Jvm.MethodName)) ∈ lw_all := lw_g (lw_at lw_m5 182 rfl) rfl
theorem q1236 : (Jvm.Cond.code ({ cls := "AntennaTuner", name := "arcsNoticed", desc := "(I)I" } : Jvm.MethodName) prog_1_method_49_code (4 : Nat) (Option.some Jvm.ClassFile.FieldType.int)) ∈ lw_all := lw_g (lw_at lw_m5 183 rfl) rfl
theorem q1238 : (Jvm.Cond.instanceMethod ({ cls := "AntennaTuner", name := "tune", desc := "()I" } : Jvm.MethodName)) ∈ lw_all := lw_g (lw_at lw_m5 185 rfl) rfl
theorem q1239 : (Jvm.Cond.selects "AntennaTuner" ({ cls := "AntennaTuner", name := "tune", desc := "()I" } : Jvm.MethodName) ({ cls := "AntennaTuner", name := "tune", desc := "()I" } : Jvm.MethodName)) ∈ lw_all := lw_g (lw_at lw_m5 186 rfl) rfl
theorem q1240 : (Jvm.Cond.code ({ cls := "AntennaTuner", name := "tune", desc := "()I" } : Jvm.MethodName) prog_1_method_51_code (1 : Nat) (Option.some Jvm.ClassFile.FieldType.int)) ∈ lw_all := lw_g (lw_at lw_m5 187 rfl) rfl
theorem q1241 : (Jvm.Cond.methodLink "AntennaTuner" (338 : Nat) ({ cls := "AntennaTuner", name := "searchFrom", desc := "(I)I" } : Jvm.MethodName)) ∈ lw_all := lw_g (lw_at lw_m5 188 rfl) rfl
theorem q1242 : (Jvm.Cond.privateMethod ({ cls := "AntennaTuner", name := "searchFrom", desc := "(I)I" } : Jvm.MethodName)) ∈ lw_tbl := lw_at lw_m5 189 rfl
theorem q1243 : (Jvm.Cond.instanceMethod ({ cls := "AntennaTuner", name := "searchFrom", desc := "(I)I" } : Jvm.MethodName)) ∈ lw_all := lw_g (lw_at lw_m5 190 rfl) rfl
theorem q1244 : (Jvm.Cond.codeWith ({ cls := "AntennaTuner", name := "searchFrom", desc := "(I)I" } : Jvm.MethodName) prog_1_method_50_code (4 : Nat) (Option.some Jvm.ClassFile.FieldType.int) [((18 : Nat), (22 : Nat), (25 : Nat), (330 : Nat))]) ∈ lw_all := lw_g (lw_at lw_m5 191 rfl) rfl
theorem q1245 : (Jvm.Cond.classLink "AntennaTuner" (330 : Nat) "AntennaTuner$SearchFailure") ∈ lw_all := lw_g (lw_at lw_m5 192 rfl) rfl
theorem q1246 : (Jvm.Cond.classLink "AntennaTuner" (319 : Nat) "AntennaTuner$Search") ∈ lw_all := lw_g (lw_at lw_m5 193 rfl) rfl
theorem q1248 : (Jvm.Cond.methodLink "AntennaTuner" (321 : Nat) ({ cls := "AntennaTuner$Search", name := "<init>", desc := "(LAntennaTuner;I)V" } : Jvm.MethodName)) ∈ lw_all := lw_g (lw_at lw_m5 195 rfl) rfl
theorem q1274 : (Jvm.Cond.fieldLinkNest "AntennaTuner" (332 : Nat) "AntennaTuner$Search" "now" "LAntennaTuner$Setting;" "AntennaTuner") ∈ lw_tbl := lw_at lw_m5 221 rfl
theorem q1276 : (Jvm.Cond.fieldLinkNest "AntennaTuner" (336 : Nat) "AntennaTuner$Search" "swr" "I" "AntennaTuner") ∈ lw_tbl := lw_at lw_m5 223 rfl
theorem q1278 : (Jvm.Cond.fieldLinkNest "AntennaTuner" (324 : Nat) "AntennaTuner$Search" "evaluated" "I" "AntennaTuner") ∈ lw_tbl := lw_at lw_m5 225 rfl
theorem q1289 : (Jvm.Cond.methodLink "AntennaTuner" (327 : Nat) ({ cls := "AntennaTuner$Search", name := "check", desc := "()V" } : Jvm.MethodName)) ∈ lw_all := lw_g (lw_at lw_m5 236 rfl) rfl
theorem q1319 : (Jvm.Cond.fieldLinkNest "AntennaTuner" (378 : Nat) "AntennaTuner$TunerFailure" "value" "I" "AntennaTuner") ∈ lw_tbl := lw_at lw_m6 26 rfl
theorem q1380 : (Jvm.Cond.instanceMethod ({ cls := "AntennaTuner", name := "tuneCold", desc := "()I" } : Jvm.MethodName)) ∈ lw_all := lw_g (lw_at lw_m6 87 rfl) rfl
theorem q1381 : (Jvm.Cond.selects "AntennaTuner" ({ cls := "AntennaTuner", name := "tuneCold", desc := "()I" } : Jvm.MethodName) ({ cls := "AntennaTuner", name := "tuneCold", desc := "()I" } : Jvm.MethodName)) ∈ lw_all := lw_g (lw_at lw_m6 88 rfl) rfl
theorem q1382 : (Jvm.Cond.code ({ cls := "AntennaTuner", name := "tuneCold", desc := "()I" } : Jvm.MethodName) prog_1_method_52_code (1 : Nat) (Option.some Jvm.ClassFile.FieldType.int)) ∈ lw_all := lw_g (lw_at lw_m6 89 rfl) rfl
theorem q1384 : (Jvm.Cond.instanceMethod ({ cls := "AntennaTuner", name := "tuneFromMemory", desc := "()I" } : Jvm.MethodName)) ∈ lw_all := lw_g (lw_at lw_m6 91 rfl) rfl
theorem q1385 : (Jvm.Cond.selects "AntennaTuner" ({ cls := "AntennaTuner", name := "tuneFromMemory", desc := "()I" } : Jvm.MethodName) ({ cls := "AntennaTuner", name := "tuneFromMemory", desc := "()I" } : Jvm.MethodName)) ∈ lw_all := lw_g (lw_at lw_m6 92 rfl) rfl
theorem q1386 : (Jvm.Cond.codeWith ({ cls := "AntennaTuner", name := "tuneFromMemory", desc := "()I" } : Jvm.MethodName) prog_1_method_53_code (2 : Nat) (Option.some Jvm.ClassFile.FieldType.int) [((9 : Nat), (52 : Nat), (53 : Nat), (357 : Nat))]) ∈ lw_all := lw_g (lw_at lw_m6 93 rfl) rfl
theorem q1387 : (Jvm.Cond.classLink "AntennaTuner" (357 : Nat) "AntennaTuner$NothingStored") ∈ lw_all := lw_g (lw_at lw_m6 94 rfl) rfl
theorem q1388 : (Jvm.Cond.methodLink "AntennaTuner" (345 : Nat) ({ cls := "AntennaTuner", name := "suitable", desc := "()I" } : Jvm.MethodName)) ∈ lw_all := lw_g (lw_at lw_m6 95 rfl) rfl
theorem q1389 : (Jvm.Cond.privateMethod ({ cls := "AntennaTuner", name := "suitable", desc := "()I" } : Jvm.MethodName)) ∈ lw_tbl := lw_at lw_m6 96 rfl
theorem q1390 : (Jvm.Cond.instanceMethod ({ cls := "AntennaTuner", name := "suitable", desc := "()I" } : Jvm.MethodName)) ∈ lw_all := lw_g (lw_at lw_m6 97 rfl) rfl
theorem q1391 : (Jvm.Cond.code ({ cls := "AntennaTuner", name := "suitable", desc := "()I" } : Jvm.MethodName) prog_1_method_63_code (3 : Nat) (Option.some Jvm.ClassFile.FieldType.int)) ∈ lw_all := lw_g (lw_at lw_m6 98 rfl) rfl
theorem q1392 : (Jvm.Cond.methodLink "AntennaTuner" (385 : Nat) ({ cls := "java/util/ArrayList", name := "size", desc := "()I" } : Jvm.MethodName)) ∈ lw_all := lw_g (lw_at lw_m6 99 rfl) rfl
theorem q1393 : (Jvm.Cond.methodLink "AntennaTuner" (348 : Nat) ({ cls := "java/util/ArrayList", name := "get", desc := "(I)Ljava/lang/Object;" } : Jvm.MethodName)) ∈ lw_all := lw_g (lw_at lw_m6 100 rfl) rfl
theorem q1394 : (Jvm.Cond.classLink "AntennaTuner" (354 : Nat) "AntennaTuner$Entry") ∈ lw_all := lw_g (lw_at lw_m6 101 rfl) rfl
theorem q1395 : (Jvm.Cond.methodLink "AntennaTuner" (386 : Nat) ({ cls := "AntennaTuner", name := "isSuitable", desc := "(LAntennaTuner$Entry;)Z" } : Jvm.MethodName)) ∈ lw_all := lw_g (lw_at lw_m6 102 rfl) rfl
theorem q1396 : (Jvm.Cond.privateMethod ({ cls := "AntennaTuner", name := "isSuitable", desc := "(LAntennaTuner$Entry;)Z" } : Jvm.MethodName)) ∈ lw_tbl := lw_at lw_m6 103 rfl
theorem q1397 : (Jvm.Cond.instanceMethod ({ cls := "AntennaTuner", name := "isSuitable", desc := "(LAntennaTuner$Entry;)Z" } : Jvm.MethodName)) ∈ lw_all := lw_g (lw_at lw_m6 104 rfl) rfl
theorem q1398 : (Jvm.Cond.code ({ cls := "AntennaTuner", name := "isSuitable", desc := "(LAntennaTuner$Entry;)Z" } : Jvm.MethodName) prog_1_method_61_code (3 : Nat) (Option.some Jvm.ClassFile.FieldType.boolean)) ∈ lw_all := lw_g (lw_at lw_m6 105 rfl) rfl
theorem q1399 : (Jvm.Cond.methodLink "AntennaTuner" (390 : Nat) ({ cls := "AntennaTuner", name := "distanceTo", desc := "(I)I" } : Jvm.MethodName)) ∈ lw_all := lw_g (lw_at lw_m6 106 rfl) rfl
theorem q1400 : (Jvm.Cond.privateMethod ({ cls := "AntennaTuner", name := "distanceTo", desc := "(I)I" } : Jvm.MethodName)) ∈ lw_tbl := lw_at lw_m6 107 rfl
theorem q1401 : (Jvm.Cond.instanceMethod ({ cls := "AntennaTuner", name := "distanceTo", desc := "(I)I" } : Jvm.MethodName)) ∈ lw_all := lw_g (lw_at lw_m6 108 rfl) rfl
theorem q1402 : (Jvm.Cond.code ({ cls := "AntennaTuner", name := "distanceTo", desc := "(I)I" } : Jvm.MethodName) prog_1_method_62_code (2 : Nat) (Option.some Jvm.ClassFile.FieldType.int)) ∈ lw_all := lw_g (lw_at lw_m6 109 rfl) rfl
theorem q1403 : (Jvm.Cond.methodLink "AntennaTuner" (382 : Nat) ({ cls := "java/lang/Math", name := "abs", desc := "(I)I" } : Jvm.MethodName)) ∈ lw_all := lw_g (lw_at lw_m6 110 rfl) rfl
theorem q1414 : (Jvm.Cond.classLink "AntennaTuner" (393 : Nat) "AntennaTuner$NoBand") ∈ lw_all := lw_g (lw_at lw_m6 121 rfl) rfl
theorem q1423 : (Jvm.Cond.methodLink "AntennaTuner" (395 : Nat) ({ cls := "AntennaTuner$NoBand", name := "<init>", desc := "()V" } : Jvm.MethodName)) ∈ lw_all := lw_g (lw_at lw_m6 130 rfl) rfl
theorem q1430 : (Jvm.Cond.methodLink "AntennaTuner" (396 : Nat) ({ cls := "AntennaTuner$NothingStored", name := "<init>", desc := "(ILAntennaTuner$TunerFailure;)V" } : Jvm.MethodName)) ∈ lw_all := lw_g (lw_at lw_m6 137 rfl) rfl
theorem q1437 : (Jvm.Cond.methodLink "AntennaTuner" (359 : Nat) ({ cls := "AntennaTuner$SearchFailure", name := "<init>", desc := "(ILAntennaTuner$TunerFailure;)V" } : Jvm.MethodName)) ∈ lw_all := lw_g (lw_at lw_m6 144 rfl) rfl
theorem q1439 : (Jvm.Cond.instanceMethod ({ cls := "AntennaTuner", name := "evaluations", desc := "()I" } : Jvm.MethodName)) ∈ lw_all := lw_g (lw_at lw_m6 146 rfl) rfl
theorem q1440 : (Jvm.Cond.selects "AntennaTuner" ({ cls := "AntennaTuner", name := "evaluations", desc := "()I" } : Jvm.MethodName) ({ cls := "AntennaTuner", name := "evaluations", desc := "()I" } : Jvm.MethodName)) ∈ lw_all := lw_g (lw_at lw_m6 147 rfl) rfl
theorem q1441 : (Jvm.Cond.code ({ cls := "AntennaTuner", name := "evaluations", desc := "()I" } : Jvm.MethodName) prog_1_method_54_code (1 : Nat) (Option.some Jvm.ClassFile.FieldType.int)) ∈ lw_all := lw_g (lw_at lw_m6 148 rfl) rfl
theorem q1443 : (Jvm.Cond.instanceMethod ({ cls := "AntennaTuner", name := "bestSettings", desc := "()I" } : Jvm.MethodName)) ∈ lw_all := lw_g (lw_at lw_m6 150 rfl) rfl
theorem q1444 : (Jvm.Cond.selects "AntennaTuner" ({ cls := "AntennaTuner", name := "bestSettings", desc := "()I" } : Jvm.MethodName) ({ cls := "AntennaTuner", name := "bestSettings", desc := "()I" } : Jvm.MethodName)) ∈ lw_all := lw_g (lw_at lw_m6 151 rfl) rfl
theorem q1445 : (Jvm.Cond.code ({ cls := "AntennaTuner", name := "bestSettings", desc := "()I" } : Jvm.MethodName) prog_1_method_55_code (5 : Nat) (Option.some Jvm.ClassFile.FieldType.int)) ∈ lw_all := lw_g (lw_at lw_m6 152 rfl) rfl
theorem q1446 : (Jvm.Cond.constant "AntennaTuner" (362 : Nat) (100000 : Int32)) ∈ lw_all := lw_g (lw_at lw_m6 153 rfl) rfl
theorem q1448 : (Jvm.Cond.instanceMethod ({ cls := "AntennaTuner", name := "mostEfficient", desc := "()I" } : Jvm.MethodName)) ∈ lw_all := lw_g (lw_at lw_m6 155 rfl) rfl
theorem q1449 : (Jvm.Cond.selects "AntennaTuner" ({ cls := "AntennaTuner", name := "mostEfficient", desc := "()I" } : Jvm.MethodName) ({ cls := "AntennaTuner", name := "mostEfficient", desc := "()I" } : Jvm.MethodName)) ∈ lw_all := lw_g (lw_at lw_m6 156 rfl) rfl
theorem q1450 : (Jvm.Cond.code ({ cls := "AntennaTuner", name := "mostEfficient", desc := "()I" } : Jvm.MethodName) prog_1_method_56_code (5 : Nat) (Option.some Jvm.ClassFile.FieldType.int)) ∈ lw_all := lw_g (lw_at lw_m6 157 rfl) rfl
theorem q1452 : (Jvm.Cond.instanceMethod ({ cls := "AntennaTuner", name := "failureDepth", desc := "()I" } : Jvm.MethodName)) ∈ lw_all := lw_g (lw_at lw_m6 159 rfl) rfl
theorem q1453 : (Jvm.Cond.selects "AntennaTuner" ({ cls := "AntennaTuner", name := "failureDepth", desc := "()I" } : Jvm.MethodName) ({ cls := "AntennaTuner", name := "failureDepth", desc := "()I" } : Jvm.MethodName)) ∈ lw_all := lw_g (lw_at lw_m6 160 rfl) rfl
theorem q1454 : (Jvm.Cond.code ({ cls := "AntennaTuner", name := "failureDepth", desc := "()I" } : Jvm.MethodName) prog_1_method_58_code (3 : Nat) (Option.some Jvm.ClassFile.FieldType.int)) ∈ lw_all := lw_g (lw_at lw_m6 161 rfl) rfl
theorem q1455 : (Jvm.Cond.methodLink "AntennaTuner" (363 : Nat) ({ cls := "java/lang/Throwable", name := "getCause", desc := "()Ljava/lang/Throwable;" } : Jvm.MethodName)) ∈ lw_all := lw_g (lw_at lw_m6 162 rfl) rfl
theorem q1467 : (Jvm.Cond.instanceMethod ({ cls := "AntennaTuner", name := "failureKind", desc := "(I)I" } : Jvm.MethodName)) ∈ lw_all := lw_g (lw_at lw_m6 174 rfl) rfl
theorem q1468 : (Jvm.Cond.selects "AntennaTuner" ({ cls := "AntennaTuner", name := "failureKind", desc := "(I)I" } : Jvm.MethodName) ({ cls := "AntennaTuner", name := "failureKind", desc := "(I)I" } : Jvm.MethodName)) ∈ lw_all := lw_g (lw_at lw_m6 175 rfl) rfl
theorem q1469 : (Jvm.Cond.code ({ cls := "AntennaTuner", name := "failureKind", desc := "(I)I" } : Jvm.MethodName) prog_1_method_59_code (3 : Nat) (Option.some Jvm.ClassFile.FieldType.int)) ∈ lw_all := lw_g (lw_at lw_m6 176 rfl) rfl
theorem q1470 : (Jvm.Cond.methodLink "AntennaTuner" (371 : Nat) ({ cls := "AntennaTuner", name := "link", desc := "(I)LAntennaTuner$TunerFailure;" } : Jvm.MethodName)) ∈ lw_all := lw_g (lw_at lw_m6 177 rfl) rfl
theorem q1471 : (Jvm.Cond.privateMethod ({ cls := "AntennaTuner", name := "link", desc := "(I)LAntennaTuner$TunerFailure;" } : Jvm.MethodName)) ∈ lw_tbl := lw_at lw_m6 178 rfl
theorem q1472 : (Jvm.Cond.instanceMethod ({ cls := "AntennaTuner", name := "link", desc := "(I)LAntennaTuner$TunerFailure;" } : Jvm.MethodName)) ∈ lw_all := lw_g (lw_at lw_m6 179 rfl) rfl
theorem q1473 : (Jvm.Cond.code ({ cls := "AntennaTuner", name := "link", desc := "(I)LAntennaTuner$TunerFailure;" } : Jvm.MethodName) prog_1_method_57_code (4 : Nat) (Option.some (Jvm.ClassFile.FieldType.object "AntennaTuner$TunerFailure"))) ∈ lw_all := lw_g (lw_at lw_m6 180 rfl) rfl
theorem q1474 : (Jvm.Cond.classLink "AntennaTuner" (369 : Nat) "AntennaTuner$TunerFailure") ∈ lw_all := lw_g (lw_at lw_m6 181 rfl) rfl
theorem q1475 : (Jvm.Cond.methodLink "AntennaTuner" (375 : Nat) ({ cls := "AntennaTuner$TunerFailure", name := "kind", desc := "()I" } : Jvm.MethodName)) ∈ lw_all := lw_g (lw_at lw_m6 182 rfl) rfl
theorem q1497 : (Jvm.Cond.instanceMethod ({ cls := "AntennaTuner", name := "failureValue", desc := "(I)I" } : Jvm.MethodName)) ∈ lw_all := lw_g (lw_at lw_m6 204 rfl) rfl
theorem q1498 : (Jvm.Cond.selects "AntennaTuner" ({ cls := "AntennaTuner", name := "failureValue", desc := "(I)I" } : Jvm.MethodName) ({ cls := "AntennaTuner", name := "failureValue", desc := "(I)I" } : Jvm.MethodName)) ∈ lw_all := lw_g (lw_at lw_m6 205 rfl) rfl
theorem q1499 : (Jvm.Cond.code ({ cls := "AntennaTuner", name := "failureValue", desc := "(I)I" } : Jvm.MethodName) prog_1_method_60_code (3 : Nat) (Option.some Jvm.ClassFile.FieldType.int)) ∈ lw_all := lw_g (lw_at lw_m6 206 rfl) rfl
theorem q1501 : (Jvm.Cond.instanceMethod ({ cls := "AntennaTuner", name := "store", desc := "()I" } : Jvm.MethodName)) ∈ lw_all := lw_g (lw_at lw_m6 208 rfl) rfl
theorem q1502 : (Jvm.Cond.selects "AntennaTuner" ({ cls := "AntennaTuner", name := "store", desc := "()I" } : Jvm.MethodName) ({ cls := "AntennaTuner", name := "store", desc := "()I" } : Jvm.MethodName)) ∈ lw_all := lw_g (lw_at lw_m6 209 rfl) rfl
theorem q1503 : (Jvm.Cond.code ({ cls := "AntennaTuner", name := "store", desc := "()I" } : Jvm.MethodName) prog_1_method_65_code (4 : Nat) (Option.some Jvm.ClassFile.FieldType.int)) ∈ lw_all := lw_g (lw_at lw_m6 210 rfl) rfl
theorem q1504 : (Jvm.Cond.methodLink "AntennaTuner" (397 : Nat) ({ cls := "AntennaTuner", name := "placeOf", desc := "(I)I" } : Jvm.MethodName)) ∈ lw_all := lw_g (lw_at lw_m6 211 rfl) rfl
theorem q1505 : (Jvm.Cond.privateMethod ({ cls := "AntennaTuner", name := "placeOf", desc := "(I)I" } : Jvm.MethodName)) ∈ lw_tbl := lw_at lw_m6 212 rfl
theorem q1506 : (Jvm.Cond.instanceMethod ({ cls := "AntennaTuner", name := "placeOf", desc := "(I)I" } : Jvm.MethodName)) ∈ lw_all := lw_g (lw_at lw_m6 213 rfl) rfl
theorem q1507 : (Jvm.Cond.code ({ cls := "AntennaTuner", name := "placeOf", desc := "(I)I" } : Jvm.MethodName) prog_1_method_64_code (3 : Nat) (Option.some Jvm.ClassFile.FieldType.int)) ∈ lw_all := lw_g (lw_at lw_m6 214 rfl) rfl
theorem q1509 : (Jvm.Cond.methodLink "AntennaTuner" (400 : Nat) ({ cls := "AntennaTuner$Entry", name := "<init>", desc := "(III)V" } : Jvm.MethodName)) ∈ lw_all := lw_g (lw_at lw_m6 216 rfl) rfl
theorem q1514 : (Jvm.Cond.fieldLinkNest "AntennaTuner" (381 : Nat) "AntennaTuner$Entry" "frequency" "I" "AntennaTuner") ∈ lw_tbl := lw_at lw_m6 221 rfl
theorem q1516 : (Jvm.Cond.fieldLinkNest "AntennaTuner" (356 : Nat) "AntennaTuner$Entry" "settings" "I" "AntennaTuner") ∈ lw_tbl := lw_at lw_m6 223 rfl
theorem q1518 : (Jvm.Cond.fieldLinkNest "AntennaTuner" (414 : Nat) "AntennaTuner$Entry" "swr" "I" "AntennaTuner") ∈ lw_tbl := lw_at lw_m6 225 rfl
theorem q1526 : (Jvm.Cond.methodLink "AntennaTuner" (401 : Nat) ({ cls := "java/util/ArrayList", name := "set", desc := "(ILjava/lang/Object;)Ljava/lang/Object;" } : Jvm.MethodName)) ∈ lw_all := lw_g (lw_at lw_m6 233 rfl) rfl
theorem q1530 : (Jvm.Cond.methodLink "AntennaTuner" (404 : Nat) ({ cls := "java/util/ArrayList", name := "add", desc := "(ILjava/lang/Object;)V" } : Jvm.MethodName)) ∈ lw_all := lw_g (lw_at lw_m6 237 rfl) rfl
theorem q1540 : (Jvm.Cond.instanceMethod ({ cls := "AntennaTuner", name := "recall", desc := "()I" } : Jvm.MethodName)) ∈ lw_all := lw_g (lw_at lw_m7 7 rfl) rfl
theorem q1541 : (Jvm.Cond.selects "AntennaTuner" ({ cls := "AntennaTuner", name := "recall", desc := "()I" } : Jvm.MethodName) ({ cls := "AntennaTuner", name := "recall", desc := "()I" } : Jvm.MethodName)) ∈ lw_all := lw_g (lw_at lw_m7 8 rfl) rfl
theorem q1542 : (Jvm.Cond.codeWith ({ cls := "AntennaTuner", name := "recall", desc := "()I" } : Jvm.MethodName) prog_1_method_66_code (3 : Nat) (Option.some Jvm.ClassFile.FieldType.int) [((9 : Nat), (14 : Nat), (17 : Nat), (357 : Nat))]) ∈ lw_all := lw_g (lw_at lw_m7 9 rfl) rfl
theorem q1544 : (Jvm.Cond.instanceMethod ({ cls := "AntennaTuner", name := "forget", desc := "(I)I" } : Jvm.MethodName)) ∈ lw_all := lw_g (lw_at lw_m7 11 rfl) rfl
theorem q1545 : (Jvm.Cond.selects "AntennaTuner" ({ cls := "AntennaTuner", name := "forget", desc := "(I)I" } : Jvm.MethodName) ({ cls := "AntennaTuner", name := "forget", desc := "(I)I" } : Jvm.MethodName)) ∈ lw_all := lw_g (lw_at lw_m7 12 rfl) rfl
theorem q1546 : (Jvm.Cond.code ({ cls := "AntennaTuner", name := "forget", desc := "(I)I" } : Jvm.MethodName) prog_1_method_68_code (2 : Nat) (Option.some Jvm.ClassFile.FieldType.int)) ∈ lw_all := lw_g (lw_at lw_m7 13 rfl) rfl
theorem q1547 : (Jvm.Cond.methodLink "AntennaTuner" (408 : Nat) ({ cls := "AntennaTuner", name := "isEntry", desc := "(I)Z" } : Jvm.MethodName)) ∈ lw_all := lw_g (lw_at lw_m7 14 rfl) rfl
theorem q1548 : (Jvm.Cond.privateMethod ({ cls := "AntennaTuner", name := "isEntry", desc := "(I)Z" } : Jvm.MethodName)) ∈ lw_tbl := lw_at lw_m7 15 rfl
theorem q1549 : (Jvm.Cond.instanceMethod ({ cls := "AntennaTuner", name := "isEntry", desc := "(I)Z" } : Jvm.MethodName)) ∈ lw_all := lw_g (lw_at lw_m7 16 rfl) rfl
theorem q1550 : (Jvm.Cond.code ({ cls := "AntennaTuner", name := "isEntry", desc := "(I)Z" } : Jvm.MethodName) prog_1_method_67_code (2 : Nat) (Option.some Jvm.ClassFile.FieldType.boolean)) ∈ lw_all := lw_g (lw_at lw_m7 17 rfl) rfl
theorem q1551 : (Jvm.Cond.methodLink "AntennaTuner" (411 : Nat) ({ cls := "java/util/ArrayList", name := "remove", desc := "(I)Ljava/lang/Object;" } : Jvm.MethodName)) ∈ lw_all := lw_g (lw_at lw_m7 18 rfl) rfl
theorem q1560 : (Jvm.Cond.instanceMethod ({ cls := "AntennaTuner", name := "memoryCount", desc := "()I" } : Jvm.MethodName)) ∈ lw_all := lw_g (lw_at lw_m7 27 rfl) rfl
theorem q1561 : (Jvm.Cond.selects "AntennaTuner" ({ cls := "AntennaTuner", name := "memoryCount", desc := "()I" } : Jvm.MethodName) ({ cls := "AntennaTuner", name := "memoryCount", desc := "()I" } : Jvm.MethodName)) ∈ lw_all := lw_g (lw_at lw_m7 28 rfl) rfl
theorem q1562 : (Jvm.Cond.code ({ cls := "AntennaTuner", name := "memoryCount", desc := "()I" } : Jvm.MethodName) prog_1_method_69_code (1 : Nat) (Option.some Jvm.ClassFile.FieldType.int)) ∈ lw_all := lw_g (lw_at lw_m7 29 rfl) rfl
theorem q1564 : (Jvm.Cond.instanceMethod ({ cls := "AntennaTuner", name := "memoryFrequency", desc := "(I)I" } : Jvm.MethodName)) ∈ lw_all := lw_g (lw_at lw_m7 31 rfl) rfl
theorem q1565 : (Jvm.Cond.selects "AntennaTuner" ({ cls := "AntennaTuner", name := "memoryFrequency", desc := "(I)I" } : Jvm.MethodName) ({ cls := "AntennaTuner", name := "memoryFrequency", desc := "(I)I" } : Jvm.MethodName)) ∈ lw_all := lw_g (lw_at lw_m7 32 rfl) rfl
theorem q1566 : (Jvm.Cond.code ({ cls := "AntennaTuner", name := "memoryFrequency", desc := "(I)I" } : Jvm.MethodName) prog_1_method_70_code (2 : Nat) (Option.some Jvm.ClassFile.FieldType.int)) ∈ lw_all := lw_g (lw_at lw_m7 33 rfl) rfl
theorem q1568 : (Jvm.Cond.instanceMethod ({ cls := "AntennaTuner", name := "memorySettings", desc := "(I)I" } : Jvm.MethodName)) ∈ lw_all := lw_g (lw_at lw_m7 35 rfl) rfl
theorem q1569 : (Jvm.Cond.selects "AntennaTuner" ({ cls := "AntennaTuner", name := "memorySettings", desc := "(I)I" } : Jvm.MethodName) ({ cls := "AntennaTuner", name := "memorySettings", desc := "(I)I" } : Jvm.MethodName)) ∈ lw_all := lw_g (lw_at lw_m7 36 rfl) rfl
theorem q1570 : (Jvm.Cond.code ({ cls := "AntennaTuner", name := "memorySettings", desc := "(I)I" } : Jvm.MethodName) prog_1_method_71_code (2 : Nat) (Option.some Jvm.ClassFile.FieldType.int)) ∈ lw_all := lw_g (lw_at lw_m7 37 rfl) rfl
theorem q1572 : (Jvm.Cond.instanceMethod ({ cls := "AntennaTuner", name := "memorySwr", desc := "(I)I" } : Jvm.MethodName)) ∈ lw_all := lw_g (lw_at lw_m7 39 rfl) rfl
theorem q1573 : (Jvm.Cond.selects "AntennaTuner" ({ cls := "AntennaTuner", name := "memorySwr", desc := "(I)I" } : Jvm.MethodName) ({ cls := "AntennaTuner", name := "memorySwr", desc := "(I)I" } : Jvm.MethodName)) ∈ lw_all := lw_g (lw_at lw_m7 40 rfl) rfl
theorem q1574 : (Jvm.Cond.code ({ cls := "AntennaTuner", name := "memorySwr", desc := "(I)I" } : Jvm.MethodName) prog_1_method_72_code (2 : Nat) (Option.some Jvm.ClassFile.FieldType.int)) ∈ lw_all := lw_g (lw_at lw_m7 41 rfl) rfl
theorem q1576 : (Jvm.Cond.instanceMethod ({ cls := "AntennaTuner", name := "undo", desc := "()I" } : Jvm.MethodName)) ∈ lw_all := lw_g (lw_at lw_m7 43 rfl) rfl
theorem q1577 : (Jvm.Cond.selects "AntennaTuner" ({ cls := "AntennaTuner", name := "undo", desc := "()I" } : Jvm.MethodName) ({ cls := "AntennaTuner", name := "undo", desc := "()I" } : Jvm.MethodName)) ∈ lw_all := lw_g (lw_at lw_m7 44 rfl) rfl
theorem q1578 : (Jvm.Cond.code ({ cls := "AntennaTuner", name := "undo", desc := "()I" } : Jvm.MethodName) prog_1_method_73_code (1 : Nat) (Option.some Jvm.ClassFile.FieldType.int)) ∈ lw_all := lw_g (lw_at lw_m7 45 rfl) rfl
theorem q1579 : (Jvm.Cond.methodLink "AntennaTuner" (415 : Nat) ({ cls := "java/util/ArrayDeque", name := "isEmpty", desc := "()Z" } : Jvm.MethodName)) ∈ lw_all := lw_g (lw_at lw_m7 46 rfl) rfl
theorem q1583 : (Jvm.Cond.methodLink "AntennaTuner" (418 : Nat) ({ cls := "java/util/ArrayDeque", name := "removeLast", desc := "()Ljava/lang/Object;" } : Jvm.MethodName)) ∈ lw_all := lw_g (lw_at lw_m7 50 rfl) rfl
theorem q2211 : (Jvm.Cond.castable "AntennaTuner" "java/lang/Object") ∈ lw_tbl := lw_at lw_m9 198 rfl
theorem in_X0 : ∀ w ∈ wsX00, w ∈ lw_all := lw_in wsX00 [296, 298, 300, 302, 304, 306, 308, 310, 312, 314, 316] (by decide +kernel) (by decide +kernel)
/-! AntennaTuner$Impedance -/
set_option maxRecDepth 100000
def RX1 : String := "AntennaTuner$Impedance"
def TX1 : u_T := fun k => match k with
  | 0 => ("AntennaTuner$Impedance", "resistance", "J", false)
  | _ => ("AntennaTuner$Impedance", "reactance", "J", false)
def tyX1 : Nat → FieldType := fun k => match k with
  | 0 => .long
  | _ => .long
abbrev wsX10 : List Cond := u_ws RX1 TX1 2
theorem nmX1 : ∀ a, a < 2 → ∀ b, b < 2 → a ≠ b → (TX1 a).2.1 ≠ (TX1 b).2.1 := by decide +kernel
theorem tyX1_ok : ∀ k, k < 2 → parseFieldDescriptor (TX1 k).2.2.1 = some (tyX1 k) := by decide +kernel
abbrev cX1_addInParallel : ByteArray := prog_5_method_4_code
def yX1_addInParallel : MethodName := ⟨RX1, "addInParallel", "(J)V"⟩
def dkwX1_addInParallel_3 : List UInt8 := [105, 22, 9, 109, 184, 0, 30, 22, 7, 117, 20, 0, 22, 105, 22, 9, 109, 184, 0, 30, 182, 0, 26, 177]
abbrev dktX1_addInParallel_3 : List UInt8 := dkwX1_addInParallel_3 ++ []
def dkwX1_addInParallel_2 : List UInt8 := [22, 9, 9, 148, 154, 0, 14, 42, 20, 0, 24, 9, 182, 0, 26, 167, 0, 32, 42, 22, 5, 20, 0, 22]
abbrev dktX1_addInParallel_2 : List UInt8 := dkwX1_addInParallel_2 ++ dktX1_addInParallel_3
def dkwX1_addInParallel_1 : List UInt8 := [20, 0, 22, 105, 33, 109, 31, 97, 55, 7, 22, 5, 22, 5, 105, 22, 7, 22, 7, 105, 97, 55, 9]
abbrev dktX1_addInParallel_1 : List UInt8 := dkwX1_addInParallel_1 ++ dktX1_addInParallel_2
def dkwX1_addInParallel_0 : List UInt8 := [42, 182, 0, 18, 66, 42, 180, 0, 9, 20, 0, 22, 105, 33, 109, 55, 5, 42, 180, 0, 15, 117]
abbrev dktX1_addInParallel_0 : List UInt8 := dkwX1_addInParallel_0 ++ dktX1_addInParallel_1
theorem dksX1_addInParallel_0 : cX1_addInParallel.data.toList.drop 0 = dktX1_addInParallel_0 := by decide +kernel
theorem dksX1_addInParallel_1 : cX1_addInParallel.data.toList.drop 22 = dktX1_addInParallel_1 := dk_seg dksX1_addInParallel_0 22 rfl rfl
theorem dksX1_addInParallel_2 : cX1_addInParallel.data.toList.drop 45 = dktX1_addInParallel_2 := dk_seg dksX1_addInParallel_1 23 rfl rfl
theorem dksX1_addInParallel_3 : cX1_addInParallel.data.toList.drop 69 = dktX1_addInParallel_3 := dk_seg dksX1_addInParallel_2 24 rfl rfl
theorem dX1_addInParallel_0 : decode cX1_addInParallel 0 = .ok (.aload_n 0, 1) := dk_42 (dk_at dksX1_addInParallel_0 0 rfl rfl)
theorem dX1_addInParallel_1 : decode cX1_addInParallel 1 = .ok (.invokevirtual 18, 3) := dk_182 0 18 (dk_at dksX1_addInParallel_0 1 rfl rfl)
theorem dX1_addInParallel_4 : decode cX1_addInParallel 4 = .ok (.lstore_n 3, 1) := dk_66 (dk_at dksX1_addInParallel_0 4 rfl rfl)
theorem dX1_addInParallel_5 : decode cX1_addInParallel 5 = .ok (.aload_n 0, 1) := dk_42 (dk_at dksX1_addInParallel_0 5 rfl rfl)
theorem dX1_addInParallel_6 : decode cX1_addInParallel 6 = .ok (.getfield 9, 3) := dk_180 0 9 (dk_at dksX1_addInParallel_0 6 rfl rfl)
theorem dX1_addInParallel_9 : decode cX1_addInParallel 9 = .ok (.ldc2_w 22, 3) := dk_20 0 22 (dk_at dksX1_addInParallel_0 9 rfl rfl)
theorem dX1_addInParallel_12 : decode cX1_addInParallel 12 = .ok (.lmul, 1) := dk_105 (dk_at dksX1_addInParallel_0 12 rfl rfl)
theorem dX1_addInParallel_13 : decode cX1_addInParallel 13 = .ok (.lload_n 3, 1) := dk_33 (dk_at dksX1_addInParallel_0 13 rfl rfl)
theorem dX1_addInParallel_14 : decode cX1_addInParallel 14 = .ok (.ldiv, 1) := dk_109 (dk_at dksX1_addInParallel_0 14 rfl rfl)
theorem dX1_addInParallel_15 : decode cX1_addInParallel 15 = .ok (.lstore 5, 2) := dk_55 5 (dk_at dksX1_addInParallel_0 15 rfl rfl)
theorem dX1_addInParallel_17 : decode cX1_addInParallel 17 = .ok (.aload_n 0, 1) := dk_42 (dk_at dksX1_addInParallel_0 17 rfl rfl)
theorem dX1_addInParallel_18 : decode cX1_addInParallel 18 = .ok (.getfield 15, 3) := dk_180 0 15 (dk_at dksX1_addInParallel_0 18 rfl rfl)
theorem dX1_addInParallel_21 : decode cX1_addInParallel 21 = .ok (.lneg, 1) := dk_117 (dk_at dksX1_addInParallel_0 21 rfl rfl)
theorem dX1_addInParallel_22 : decode cX1_addInParallel 22 = .ok (.ldc2_w 22, 3) := dk_20 0 22 (dk_at dksX1_addInParallel_1 0 rfl rfl)
theorem dX1_addInParallel_25 : decode cX1_addInParallel 25 = .ok (.lmul, 1) := dk_105 (dk_at dksX1_addInParallel_1 3 rfl rfl)
theorem dX1_addInParallel_26 : decode cX1_addInParallel 26 = .ok (.lload_n 3, 1) := dk_33 (dk_at dksX1_addInParallel_1 4 rfl rfl)
theorem dX1_addInParallel_27 : decode cX1_addInParallel 27 = .ok (.ldiv, 1) := dk_109 (dk_at dksX1_addInParallel_1 5 rfl rfl)
theorem dX1_addInParallel_28 : decode cX1_addInParallel 28 = .ok (.lload_n 1, 1) := dk_31 (dk_at dksX1_addInParallel_1 6 rfl rfl)
theorem dX1_addInParallel_29 : decode cX1_addInParallel 29 = .ok (.ladd, 1) := dk_97 (dk_at dksX1_addInParallel_1 7 rfl rfl)
theorem dX1_addInParallel_30 : decode cX1_addInParallel 30 = .ok (.lstore 7, 2) := dk_55 7 (dk_at dksX1_addInParallel_1 8 rfl rfl)
theorem dX1_addInParallel_32 : decode cX1_addInParallel 32 = .ok (.lload 5, 2) := dk_22 5 (dk_at dksX1_addInParallel_1 10 rfl rfl)
theorem dX1_addInParallel_34 : decode cX1_addInParallel 34 = .ok (.lload 5, 2) := dk_22 5 (dk_at dksX1_addInParallel_1 12 rfl rfl)
theorem dX1_addInParallel_36 : decode cX1_addInParallel 36 = .ok (.lmul, 1) := dk_105 (dk_at dksX1_addInParallel_1 14 rfl rfl)
theorem dX1_addInParallel_37 : decode cX1_addInParallel 37 = .ok (.lload 7, 2) := dk_22 7 (dk_at dksX1_addInParallel_1 15 rfl rfl)
theorem dX1_addInParallel_39 : decode cX1_addInParallel 39 = .ok (.lload 7, 2) := dk_22 7 (dk_at dksX1_addInParallel_1 17 rfl rfl)
theorem dX1_addInParallel_41 : decode cX1_addInParallel 41 = .ok (.lmul, 1) := dk_105 (dk_at dksX1_addInParallel_1 19 rfl rfl)
theorem dX1_addInParallel_42 : decode cX1_addInParallel 42 = .ok (.ladd, 1) := dk_97 (dk_at dksX1_addInParallel_1 20 rfl rfl)
theorem dX1_addInParallel_43 : decode cX1_addInParallel 43 = .ok (.lstore 9, 2) := dk_55 9 (dk_at dksX1_addInParallel_1 21 rfl rfl)
theorem dX1_addInParallel_45 : decode cX1_addInParallel 45 = .ok (.lload 9, 2) := dk_22 9 (dk_at dksX1_addInParallel_2 0 rfl rfl)
theorem dX1_addInParallel_47 : decode cX1_addInParallel 47 = .ok (.lconst 0, 1) := dk_9 (dk_at dksX1_addInParallel_2 2 rfl rfl)
theorem dX1_addInParallel_48 : decode cX1_addInParallel 48 = .ok (.lcmp, 1) := dk_148 (dk_at dksX1_addInParallel_2 3 rfl rfl)
theorem dX1_addInParallel_49 : decode cX1_addInParallel 49 = .ok (.ifCond .ne 14, 3) := dk_154 0 14 (dk_at dksX1_addInParallel_2 4 rfl rfl)
theorem dX1_addInParallel_52 : decode cX1_addInParallel 52 = .ok (.aload_n 0, 1) := dk_42 (dk_at dksX1_addInParallel_2 7 rfl rfl)
theorem dX1_addInParallel_53 : decode cX1_addInParallel 53 = .ok (.ldc2_w 24, 3) := dk_20 0 24 (dk_at dksX1_addInParallel_2 8 rfl rfl)
theorem dX1_addInParallel_56 : decode cX1_addInParallel 56 = .ok (.lconst 0, 1) := dk_9 (dk_at dksX1_addInParallel_2 11 rfl rfl)
theorem dX1_addInParallel_57 : decode cX1_addInParallel 57 = .ok (.invokevirtual 26, 3) := dk_182 0 26 (dk_at dksX1_addInParallel_2 12 rfl rfl)
theorem dX1_addInParallel_60 : decode cX1_addInParallel 60 = .ok (.goto 32, 3) := dk_167 0 32 (dk_at dksX1_addInParallel_2 15 rfl rfl)
theorem dX1_addInParallel_63 : decode cX1_addInParallel 63 = .ok (.aload_n 0, 1) := dk_42 (dk_at dksX1_addInParallel_2 18 rfl rfl)
theorem dX1_addInParallel_64 : decode cX1_addInParallel 64 = .ok (.lload 5, 2) := dk_22 5 (dk_at dksX1_addInParallel_2 19 rfl rfl)
theorem dX1_addInParallel_66 : decode cX1_addInParallel 66 = .ok (.ldc2_w 22, 3) := dk_20 0 22 (dk_at dksX1_addInParallel_2 21 rfl rfl)
theorem dX1_addInParallel_69 : decode cX1_addInParallel 69 = .ok (.lmul, 1) := dk_105 (dk_at dksX1_addInParallel_3 0 rfl rfl)
theorem dX1_addInParallel_70 : decode cX1_addInParallel 70 = .ok (.lload 9, 2) := dk_22 9 (dk_at dksX1_addInParallel_3 1 rfl rfl)
theorem dX1_addInParallel_72 : decode cX1_addInParallel 72 = .ok (.ldiv, 1) := dk_109 (dk_at dksX1_addInParallel_3 3 rfl rfl)
theorem dX1_addInParallel_73 : decode cX1_addInParallel 73 = .ok (.invokestatic 30, 3) := dk_184 0 30 (dk_at dksX1_addInParallel_3 4 rfl rfl)
theorem dX1_addInParallel_76 : decode cX1_addInParallel 76 = .ok (.lload 7, 2) := dk_22 7 (dk_at dksX1_addInParallel_3 7 rfl rfl)
theorem dX1_addInParallel_78 : decode cX1_addInParallel 78 = .ok (.lneg, 1) := dk_117 (dk_at dksX1_addInParallel_3 9 rfl rfl)
theorem dX1_addInParallel_79 : decode cX1_addInParallel 79 = .ok (.ldc2_w 22, 3) := dk_20 0 22 (dk_at dksX1_addInParallel_3 10 rfl rfl)
theorem dX1_addInParallel_82 : decode cX1_addInParallel 82 = .ok (.lmul, 1) := dk_105 (dk_at dksX1_addInParallel_3 13 rfl rfl)
theorem dX1_addInParallel_83 : decode cX1_addInParallel 83 = .ok (.lload 9, 2) := dk_22 9 (dk_at dksX1_addInParallel_3 14 rfl rfl)
theorem dX1_addInParallel_85 : decode cX1_addInParallel 85 = .ok (.ldiv, 1) := dk_109 (dk_at dksX1_addInParallel_3 16 rfl rfl)
theorem dX1_addInParallel_86 : decode cX1_addInParallel 86 = .ok (.invokestatic 30, 3) := dk_184 0 30 (dk_at dksX1_addInParallel_3 17 rfl rfl)
theorem dX1_addInParallel_89 : decode cX1_addInParallel 89 = .ok (.invokevirtual 26, 3) := dk_182 0 26 (dk_at dksX1_addInParallel_3 20 rfl rfl)
theorem dX1_addInParallel_92 : decode cX1_addInParallel 92 = .ok (.return_, 1) := dk_177 (dk_at dksX1_addInParallel_3 23 rfl rfl)
abbrev cX1_square : ByteArray := prog_5_method_6_code
def yX1_square : MethodName := ⟨RX1, "square", "()J"⟩
def dkwX1_square_0 : List UInt8 := [42, 180, 0, 9, 42, 180, 0, 9, 105, 42, 180, 0, 15, 42, 180, 0, 15, 105, 97, 173]
abbrev dktX1_square_0 : List UInt8 := dkwX1_square_0 ++ []
theorem dksX1_square_0 : cX1_square.data.toList.drop 0 = dktX1_square_0 := by decide +kernel
theorem dX1_square_0 : decode cX1_square 0 = .ok (.aload_n 0, 1) := dk_42 (dk_at dksX1_square_0 0 rfl rfl)
theorem dX1_square_1 : decode cX1_square 1 = .ok (.getfield 9, 3) := dk_180 0 9 (dk_at dksX1_square_0 1 rfl rfl)
theorem dX1_square_4 : decode cX1_square 4 = .ok (.aload_n 0, 1) := dk_42 (dk_at dksX1_square_0 4 rfl rfl)
theorem dX1_square_5 : decode cX1_square 5 = .ok (.getfield 9, 3) := dk_180 0 9 (dk_at dksX1_square_0 5 rfl rfl)
theorem dX1_square_8 : decode cX1_square 8 = .ok (.lmul, 1) := dk_105 (dk_at dksX1_square_0 8 rfl rfl)
theorem dX1_square_9 : decode cX1_square 9 = .ok (.aload_n 0, 1) := dk_42 (dk_at dksX1_square_0 9 rfl rfl)
theorem dX1_square_10 : decode cX1_square 10 = .ok (.getfield 15, 3) := dk_180 0 15 (dk_at dksX1_square_0 10 rfl rfl)
theorem dX1_square_13 : decode cX1_square 13 = .ok (.aload_n 0, 1) := dk_42 (dk_at dksX1_square_0 13 rfl rfl)
theorem dX1_square_14 : decode cX1_square 14 = .ok (.getfield 15, 3) := dk_180 0 15 (dk_at dksX1_square_0 14 rfl rfl)
theorem dX1_square_17 : decode cX1_square 17 = .ok (.lmul, 1) := dk_105 (dk_at dksX1_square_0 17 rfl rfl)
theorem dX1_square_18 : decode cX1_square 18 = .ok (.ladd, 1) := dk_97 (dk_at dksX1_square_0 18 rfl rfl)
theorem dX1_square_19 : decode cX1_square 19 = .ok (.lreturn, 1) := dk_173 (dk_at dksX1_square_0 19 rfl rfl)
abbrev cX1_set : ByteArray := prog_5_method_2_code
def yX1_set : MethodName := ⟨RX1, "set", "(JJ)V"⟩
def dkwX1_set_0 : List UInt8 := [42, 31, 181, 0, 9, 42, 33, 181, 0, 15, 177]
abbrev dktX1_set_0 : List UInt8 := dkwX1_set_0 ++ []
theorem dksX1_set_0 : cX1_set.data.toList.drop 0 = dktX1_set_0 := by decide +kernel
theorem dX1_set_0 : decode cX1_set 0 = .ok (.aload_n 0, 1) := dk_42 (dk_at dksX1_set_0 0 rfl rfl)
theorem dX1_set_1 : decode cX1_set 1 = .ok (.lload_n 1, 1) := dk_31 (dk_at dksX1_set_0 1 rfl rfl)
theorem dX1_set_2 : decode cX1_set 2 = .ok (.putfield 9, 3) := dk_181 0 9 (dk_at dksX1_set_0 2 rfl rfl)
theorem dX1_set_5 : decode cX1_set 5 = .ok (.aload_n 0, 1) := dk_42 (dk_at dksX1_set_0 5 rfl rfl)
theorem dX1_set_6 : decode cX1_set 6 = .ok (.lload_n 3, 1) := dk_33 (dk_at dksX1_set_0 6 rfl rfl)
theorem dX1_set_7 : decode cX1_set 7 = .ok (.putfield 15, 3) := dk_181 0 15 (dk_at dksX1_set_0 7 rfl rfl)
theorem dX1_set_10 : decode cX1_set 10 = .ok (.return_, 1) := dk_177 (dk_at dksX1_set_0 10 rfl rfl)
abbrev cX1_limited : ByteArray := prog_5_method_5_code
def yX1_limited : MethodName := ⟨RX1, "limited", "(J)J"⟩
def dkwX1_limited_0 : List UInt8 := [20, 0, 34, 20, 0, 24, 30, 184, 0, 36, 184, 0, 42, 173]
abbrev dktX1_limited_0 : List UInt8 := dkwX1_limited_0 ++ []
theorem dksX1_limited_0 : cX1_limited.data.toList.drop 0 = dktX1_limited_0 := by decide +kernel
theorem dX1_limited_0 : decode cX1_limited 0 = .ok (.ldc2_w 34, 3) := dk_20 0 34 (dk_at dksX1_limited_0 0 rfl rfl)
theorem dX1_limited_3 : decode cX1_limited 3 = .ok (.ldc2_w 24, 3) := dk_20 0 24 (dk_at dksX1_limited_0 3 rfl rfl)
theorem dX1_limited_6 : decode cX1_limited 6 = .ok (.lload_n 0, 1) := dk_30 (dk_at dksX1_limited_0 6 rfl rfl)
theorem dX1_limited_7 : decode cX1_limited 7 = .ok (.invokestatic 36, 3) := dk_184 0 36 (dk_at dksX1_limited_0 7 rfl rfl)
theorem dX1_limited_10 : decode cX1_limited 10 = .ok (.invokestatic 42, 3) := dk_184 0 42 (dk_at dksX1_limited_0 10 rfl rfl)
theorem dX1_limited_13 : decode cX1_limited 13 = .ok (.lreturn, 1) := dk_173 (dk_at dksX1_limited_0 13 rfl rfl)
abbrev cX1_addInSeries : ByteArray := prog_5_method_3_code
def yX1_addInSeries : MethodName := ⟨RX1, "addInSeries", "(JJ)V"⟩
def dkwX1_addInSeries_0 : List UInt8 := [42, 89, 180, 0, 9, 31, 97, 181, 0, 9, 42, 89, 180, 0, 15, 33, 97, 181, 0, 15, 177]
abbrev dktX1_addInSeries_0 : List UInt8 := dkwX1_addInSeries_0 ++ []
theorem dksX1_addInSeries_0 : cX1_addInSeries.data.toList.drop 0 = dktX1_addInSeries_0 := by decide +kernel
theorem dX1_addInSeries_0 : decode cX1_addInSeries 0 = .ok (.aload_n 0, 1) := dk_42 (dk_at dksX1_addInSeries_0 0 rfl rfl)
theorem dX1_addInSeries_1 : decode cX1_addInSeries 1 = .ok (.dup, 1) := dk_89 (dk_at dksX1_addInSeries_0 1 rfl rfl)
theorem dX1_addInSeries_2 : decode cX1_addInSeries 2 = .ok (.getfield 9, 3) := dk_180 0 9 (dk_at dksX1_addInSeries_0 2 rfl rfl)
theorem dX1_addInSeries_5 : decode cX1_addInSeries 5 = .ok (.lload_n 1, 1) := dk_31 (dk_at dksX1_addInSeries_0 5 rfl rfl)
theorem dX1_addInSeries_6 : decode cX1_addInSeries 6 = .ok (.ladd, 1) := dk_97 (dk_at dksX1_addInSeries_0 6 rfl rfl)
theorem dX1_addInSeries_7 : decode cX1_addInSeries 7 = .ok (.putfield 9, 3) := dk_181 0 9 (dk_at dksX1_addInSeries_0 7 rfl rfl)
theorem dX1_addInSeries_10 : decode cX1_addInSeries 10 = .ok (.aload_n 0, 1) := dk_42 (dk_at dksX1_addInSeries_0 10 rfl rfl)
theorem dX1_addInSeries_11 : decode cX1_addInSeries 11 = .ok (.dup, 1) := dk_89 (dk_at dksX1_addInSeries_0 11 rfl rfl)
theorem dX1_addInSeries_12 : decode cX1_addInSeries 12 = .ok (.getfield 15, 3) := dk_180 0 15 (dk_at dksX1_addInSeries_0 12 rfl rfl)
theorem dX1_addInSeries_15 : decode cX1_addInSeries 15 = .ok (.lload_n 3, 1) := dk_33 (dk_at dksX1_addInSeries_0 15 rfl rfl)
theorem dX1_addInSeries_16 : decode cX1_addInSeries 16 = .ok (.ladd, 1) := dk_97 (dk_at dksX1_addInSeries_0 16 rfl rfl)
theorem dX1_addInSeries_17 : decode cX1_addInSeries 17 = .ok (.putfield 15, 3) := dk_181 0 15 (dk_at dksX1_addInSeries_0 17 rfl rfl)
theorem dX1_addInSeries_20 : decode cX1_addInSeries 20 = .ok (.return_, 1) := dk_177 (dk_at dksX1_addInSeries_0 20 rfl rfl)
abbrev cX1_init : ByteArray := prog_5_method_1_code
def yX1_init : MethodName := ⟨RX1, "<init>", "()V"⟩
theorem dX1_init_0 : decode cX1_init 0 = .ok (.aload_n 0, 1) := by decide +kernel
theorem dX1_init_1 : decode cX1_init 1 = .ok (.invokespecial 3, 3) := by decide +kernel
theorem dX1_init_4 : decode cX1_init 4 = .ok (.return_, 1) := by decide +kernel
abbrev cX1_swr : ByteArray := prog_5_method_7_code
def yX1_swr : MethodName := ⟨RX1, "swr", "()I"⟩
def dkwX1_swr_3 : List UInt8 := [167, 0, 21, 20, 0, 51, 20, 0, 53, 33, 31, 97, 105, 33, 31, 101, 109, 184, 0, 36, 136, 172]
abbrev dktX1_swr_3 : List UInt8 := dkwX1_swr_3 ++ []
def dkwX1_swr_2 : List UInt8 := [97, 105, 42, 180, 0, 15, 42, 180, 0, 15, 105, 97, 184, 0, 47, 66, 33, 31, 148, 157, 0, 8, 18, 50]
abbrev dktX1_swr_2 : List UInt8 := dkwX1_swr_2 ++ dktX1_swr_3
def dkwX1_swr_1 : List UInt8 := [180, 0, 15, 105, 97, 184, 0, 47, 64, 42, 180, 0, 9, 20, 0, 45, 97, 42, 180, 0, 9, 20, 0, 45]
abbrev dktX1_swr_1 : List UInt8 := dkwX1_swr_1 ++ dktX1_swr_2
def dkwX1_swr_0 : List UInt8 := [42, 180, 0, 9, 20, 0, 45, 101, 42, 180, 0, 9, 20, 0, 45, 101, 105, 42, 180, 0, 15, 42]
abbrev dktX1_swr_0 : List UInt8 := dkwX1_swr_0 ++ dktX1_swr_1
theorem dksX1_swr_0 : cX1_swr.data.toList.drop 0 = dktX1_swr_0 := by decide +kernel
theorem dksX1_swr_1 : cX1_swr.data.toList.drop 22 = dktX1_swr_1 := dk_seg dksX1_swr_0 22 rfl rfl
theorem dksX1_swr_2 : cX1_swr.data.toList.drop 46 = dktX1_swr_2 := dk_seg dksX1_swr_1 24 rfl rfl
theorem dksX1_swr_3 : cX1_swr.data.toList.drop 70 = dktX1_swr_3 := dk_seg dksX1_swr_2 24 rfl rfl
theorem dX1_swr_0 : decode cX1_swr 0 = .ok (.aload_n 0, 1) := dk_42 (dk_at dksX1_swr_0 0 rfl rfl)
theorem dX1_swr_1 : decode cX1_swr 1 = .ok (.getfield 9, 3) := dk_180 0 9 (dk_at dksX1_swr_0 1 rfl rfl)
theorem dX1_swr_4 : decode cX1_swr 4 = .ok (.ldc2_w 45, 3) := dk_20 0 45 (dk_at dksX1_swr_0 4 rfl rfl)
theorem dX1_swr_7 : decode cX1_swr 7 = .ok (.lsub, 1) := dk_101 (dk_at dksX1_swr_0 7 rfl rfl)
theorem dX1_swr_8 : decode cX1_swr 8 = .ok (.aload_n 0, 1) := dk_42 (dk_at dksX1_swr_0 8 rfl rfl)
theorem dX1_swr_9 : decode cX1_swr 9 = .ok (.getfield 9, 3) := dk_180 0 9 (dk_at dksX1_swr_0 9 rfl rfl)
theorem dX1_swr_12 : decode cX1_swr 12 = .ok (.ldc2_w 45, 3) := dk_20 0 45 (dk_at dksX1_swr_0 12 rfl rfl)
theorem dX1_swr_15 : decode cX1_swr 15 = .ok (.lsub, 1) := dk_101 (dk_at dksX1_swr_0 15 rfl rfl)
theorem dX1_swr_16 : decode cX1_swr 16 = .ok (.lmul, 1) := dk_105 (dk_at dksX1_swr_0 16 rfl rfl)
theorem dX1_swr_17 : decode cX1_swr 17 = .ok (.aload_n 0, 1) := dk_42 (dk_at dksX1_swr_0 17 rfl rfl)
theorem dX1_swr_18 : decode cX1_swr 18 = .ok (.getfield 15, 3) := dk_180 0 15 (dk_at dksX1_swr_0 18 rfl rfl)
theorem dX1_swr_21 : decode cX1_swr 21 = .ok (.aload_n 0, 1) := dk_42 (dk_at dksX1_swr_0 21 rfl rfl)
theorem dX1_swr_22 : decode cX1_swr 22 = .ok (.getfield 15, 3) := dk_180 0 15 (dk_at dksX1_swr_1 0 rfl rfl)
theorem dX1_swr_25 : decode cX1_swr 25 = .ok (.lmul, 1) := dk_105 (dk_at dksX1_swr_1 3 rfl rfl)
theorem dX1_swr_26 : decode cX1_swr 26 = .ok (.ladd, 1) := dk_97 (dk_at dksX1_swr_1 4 rfl rfl)
theorem dX1_swr_27 : decode cX1_swr 27 = .ok (.invokestatic 47, 3) := dk_184 0 47 (dk_at dksX1_swr_1 5 rfl rfl)
theorem dX1_swr_30 : decode cX1_swr 30 = .ok (.lstore_n 1, 1) := dk_64 (dk_at dksX1_swr_1 8 rfl rfl)
theorem dX1_swr_31 : decode cX1_swr 31 = .ok (.aload_n 0, 1) := dk_42 (dk_at dksX1_swr_1 9 rfl rfl)
theorem dX1_swr_32 : decode cX1_swr 32 = .ok (.getfield 9, 3) := dk_180 0 9 (dk_at dksX1_swr_1 10 rfl rfl)
theorem dX1_swr_35 : decode cX1_swr 35 = .ok (.ldc2_w 45, 3) := dk_20 0 45 (dk_at dksX1_swr_1 13 rfl rfl)
theorem dX1_swr_38 : decode cX1_swr 38 = .ok (.ladd, 1) := dk_97 (dk_at dksX1_swr_1 16 rfl rfl)
theorem dX1_swr_39 : decode cX1_swr 39 = .ok (.aload_n 0, 1) := dk_42 (dk_at dksX1_swr_1 17 rfl rfl)
theorem dX1_swr_40 : decode cX1_swr 40 = .ok (.getfield 9, 3) := dk_180 0 9 (dk_at dksX1_swr_1 18 rfl rfl)
theorem dX1_swr_43 : decode cX1_swr 43 = .ok (.ldc2_w 45, 3) := dk_20 0 45 (dk_at dksX1_swr_1 21 rfl rfl)
theorem dX1_swr_46 : decode cX1_swr 46 = .ok (.ladd, 1) := dk_97 (dk_at dksX1_swr_2 0 rfl rfl)
theorem dX1_swr_47 : decode cX1_swr 47 = .ok (.lmul, 1) := dk_105 (dk_at dksX1_swr_2 1 rfl rfl)
theorem dX1_swr_48 : decode cX1_swr 48 = .ok (.aload_n 0, 1) := dk_42 (dk_at dksX1_swr_2 2 rfl rfl)
theorem dX1_swr_49 : decode cX1_swr 49 = .ok (.getfield 15, 3) := dk_180 0 15 (dk_at dksX1_swr_2 3 rfl rfl)
theorem dX1_swr_52 : decode cX1_swr 52 = .ok (.aload_n 0, 1) := dk_42 (dk_at dksX1_swr_2 6 rfl rfl)
theorem dX1_swr_53 : decode cX1_swr 53 = .ok (.getfield 15, 3) := dk_180 0 15 (dk_at dksX1_swr_2 7 rfl rfl)
theorem dX1_swr_56 : decode cX1_swr 56 = .ok (.lmul, 1) := dk_105 (dk_at dksX1_swr_2 10 rfl rfl)
theorem dX1_swr_57 : decode cX1_swr 57 = .ok (.ladd, 1) := dk_97 (dk_at dksX1_swr_2 11 rfl rfl)
theorem dX1_swr_58 : decode cX1_swr 58 = .ok (.invokestatic 47, 3) := dk_184 0 47 (dk_at dksX1_swr_2 12 rfl rfl)
theorem dX1_swr_61 : decode cX1_swr 61 = .ok (.lstore_n 3, 1) := dk_66 (dk_at dksX1_swr_2 15 rfl rfl)
theorem dX1_swr_62 : decode cX1_swr 62 = .ok (.lload_n 3, 1) := dk_33 (dk_at dksX1_swr_2 16 rfl rfl)
theorem dX1_swr_63 : decode cX1_swr 63 = .ok (.lload_n 1, 1) := dk_31 (dk_at dksX1_swr_2 17 rfl rfl)
theorem dX1_swr_64 : decode cX1_swr 64 = .ok (.lcmp, 1) := dk_148 (dk_at dksX1_swr_2 18 rfl rfl)
theorem dX1_swr_65 : decode cX1_swr 65 = .ok (.ifCond .gt 8, 3) := dk_157 0 8 (dk_at dksX1_swr_2 19 rfl rfl)
theorem dX1_swr_68 : decode cX1_swr 68 = .ok (.ldc 50, 2) := dk_18 50 (dk_at dksX1_swr_2 22 rfl rfl)
theorem dX1_swr_70 : decode cX1_swr 70 = .ok (.goto 21, 3) := dk_167 0 21 (dk_at dksX1_swr_3 0 rfl rfl)
theorem dX1_swr_73 : decode cX1_swr 73 = .ok (.ldc2_w 51, 3) := dk_20 0 51 (dk_at dksX1_swr_3 3 rfl rfl)
theorem dX1_swr_76 : decode cX1_swr 76 = .ok (.ldc2_w 53, 3) := dk_20 0 53 (dk_at dksX1_swr_3 6 rfl rfl)
theorem dX1_swr_79 : decode cX1_swr 79 = .ok (.lload_n 3, 1) := dk_33 (dk_at dksX1_swr_3 9 rfl rfl)
theorem dX1_swr_80 : decode cX1_swr 80 = .ok (.lload_n 1, 1) := dk_31 (dk_at dksX1_swr_3 10 rfl rfl)
theorem dX1_swr_81 : decode cX1_swr 81 = .ok (.ladd, 1) := dk_97 (dk_at dksX1_swr_3 11 rfl rfl)
theorem dX1_swr_82 : decode cX1_swr 82 = .ok (.lmul, 1) := dk_105 (dk_at dksX1_swr_3 12 rfl rfl)
theorem dX1_swr_83 : decode cX1_swr 83 = .ok (.lload_n 3, 1) := dk_33 (dk_at dksX1_swr_3 13 rfl rfl)
theorem dX1_swr_84 : decode cX1_swr 84 = .ok (.lload_n 1, 1) := dk_31 (dk_at dksX1_swr_3 14 rfl rfl)
theorem dX1_swr_85 : decode cX1_swr 85 = .ok (.lsub, 1) := dk_101 (dk_at dksX1_swr_3 15 rfl rfl)
theorem dX1_swr_86 : decode cX1_swr 86 = .ok (.ldiv, 1) := dk_109 (dk_at dksX1_swr_3 16 rfl rfl)
theorem dX1_swr_87 : decode cX1_swr 87 = .ok (.invokestatic 36, 3) := dk_184 0 36 (dk_at dksX1_swr_3 17 rfl rfl)
theorem dX1_swr_90 : decode cX1_swr 90 = .ok (.l2i, 1) := dk_136 (dk_at dksX1_swr_3 20 rfl rfl)
theorem dX1_swr_91 : decode cX1_swr 91 = .ok (.ireturn, 1) := dk_172 (dk_at dksX1_swr_3 21 rfl rfl)
abbrev cX1_voltageWith : ByteArray := prog_5_method_8_code
def yX1_voltageWith : MethodName := ⟨RX1, "voltageWith", "(I)I"⟩
def dkwX1_voltageWith_1 : List UInt8 := [184, 0, 36, 65, 20, 0, 51, 27, 133, 32, 105, 20, 0, 57, 109, 184, 0, 47, 184, 0, 36, 136, 172]
abbrev dktX1_voltageWith_1 : List UInt8 := dkwX1_voltageWith_1 ++ []
def dkwX1_voltageWith_0 : List UInt8 := [42, 180, 0, 9, 9, 148, 154, 0, 6, 18, 50, 172, 20, 0, 55, 42, 182, 0, 18, 42, 180, 0, 9, 109]
abbrev dktX1_voltageWith_0 : List UInt8 := dkwX1_voltageWith_0 ++ dktX1_voltageWith_1
theorem dksX1_voltageWith_0 : cX1_voltageWith.data.toList.drop 0 = dktX1_voltageWith_0 := by decide +kernel
theorem dksX1_voltageWith_1 : cX1_voltageWith.data.toList.drop 24 = dktX1_voltageWith_1 := dk_seg dksX1_voltageWith_0 24 rfl rfl
theorem dX1_voltageWith_0 : decode cX1_voltageWith 0 = .ok (.aload_n 0, 1) := dk_42 (dk_at dksX1_voltageWith_0 0 rfl rfl)
theorem dX1_voltageWith_1 : decode cX1_voltageWith 1 = .ok (.getfield 9, 3) := dk_180 0 9 (dk_at dksX1_voltageWith_0 1 rfl rfl)
theorem dX1_voltageWith_4 : decode cX1_voltageWith 4 = .ok (.lconst 0, 1) := dk_9 (dk_at dksX1_voltageWith_0 4 rfl rfl)
theorem dX1_voltageWith_5 : decode cX1_voltageWith 5 = .ok (.lcmp, 1) := dk_148 (dk_at dksX1_voltageWith_0 5 rfl rfl)
theorem dX1_voltageWith_6 : decode cX1_voltageWith 6 = .ok (.ifCond .ne 6, 3) := dk_154 0 6 (dk_at dksX1_voltageWith_0 6 rfl rfl)
theorem dX1_voltageWith_9 : decode cX1_voltageWith 9 = .ok (.ldc 50, 2) := dk_18 50 (dk_at dksX1_voltageWith_0 9 rfl rfl)
theorem dX1_voltageWith_11 : decode cX1_voltageWith 11 = .ok (.ireturn, 1) := dk_172 (dk_at dksX1_voltageWith_0 11 rfl rfl)
theorem dX1_voltageWith_12 : decode cX1_voltageWith 12 = .ok (.ldc2_w 55, 3) := dk_20 0 55 (dk_at dksX1_voltageWith_0 12 rfl rfl)
theorem dX1_voltageWith_15 : decode cX1_voltageWith 15 = .ok (.aload_n 0, 1) := dk_42 (dk_at dksX1_voltageWith_0 15 rfl rfl)
theorem dX1_voltageWith_16 : decode cX1_voltageWith 16 = .ok (.invokevirtual 18, 3) := dk_182 0 18 (dk_at dksX1_voltageWith_0 16 rfl rfl)
theorem dX1_voltageWith_19 : decode cX1_voltageWith 19 = .ok (.aload_n 0, 1) := dk_42 (dk_at dksX1_voltageWith_0 19 rfl rfl)
theorem dX1_voltageWith_20 : decode cX1_voltageWith 20 = .ok (.getfield 9, 3) := dk_180 0 9 (dk_at dksX1_voltageWith_0 20 rfl rfl)
theorem dX1_voltageWith_23 : decode cX1_voltageWith 23 = .ok (.ldiv, 1) := dk_109 (dk_at dksX1_voltageWith_0 23 rfl rfl)
theorem dX1_voltageWith_24 : decode cX1_voltageWith 24 = .ok (.invokestatic 36, 3) := dk_184 0 36 (dk_at dksX1_voltageWith_1 0 rfl rfl)
theorem dX1_voltageWith_27 : decode cX1_voltageWith 27 = .ok (.lstore_n 2, 1) := dk_65 (dk_at dksX1_voltageWith_1 3 rfl rfl)
theorem dX1_voltageWith_28 : decode cX1_voltageWith 28 = .ok (.ldc2_w 51, 3) := dk_20 0 51 (dk_at dksX1_voltageWith_1 4 rfl rfl)
theorem dX1_voltageWith_31 : decode cX1_voltageWith 31 = .ok (.iload_n 1, 1) := dk_27 (dk_at dksX1_voltageWith_1 7 rfl rfl)
theorem dX1_voltageWith_32 : decode cX1_voltageWith 32 = .ok (.i2l, 1) := dk_133 (dk_at dksX1_voltageWith_1 8 rfl rfl)
theorem dX1_voltageWith_33 : decode cX1_voltageWith 33 = .ok (.lload_n 2, 1) := dk_32 (dk_at dksX1_voltageWith_1 9 rfl rfl)
theorem dX1_voltageWith_34 : decode cX1_voltageWith 34 = .ok (.lmul, 1) := dk_105 (dk_at dksX1_voltageWith_1 10 rfl rfl)
theorem dX1_voltageWith_35 : decode cX1_voltageWith 35 = .ok (.ldc2_w 57, 3) := dk_20 0 57 (dk_at dksX1_voltageWith_1 11 rfl rfl)
theorem dX1_voltageWith_38 : decode cX1_voltageWith 38 = .ok (.ldiv, 1) := dk_109 (dk_at dksX1_voltageWith_1 14 rfl rfl)
theorem dX1_voltageWith_39 : decode cX1_voltageWith 39 = .ok (.invokestatic 47, 3) := dk_184 0 47 (dk_at dksX1_voltageWith_1 15 rfl rfl)
theorem dX1_voltageWith_42 : decode cX1_voltageWith 42 = .ok (.invokestatic 36, 3) := dk_184 0 36 (dk_at dksX1_voltageWith_1 18 rfl rfl)
theorem dX1_voltageWith_45 : decode cX1_voltageWith 45 = .ok (.l2i, 1) := dk_136 (dk_at dksX1_voltageWith_1 21 rfl rfl)
theorem dX1_voltageWith_46 : decode cX1_voltageWith 46 = .ok (.ireturn, 1) := dk_172 (dk_at dksX1_voltageWith_1 22 rfl rfl)
theorem q95 : (Jvm.Cond.initialized "AntennaTuner$Impedance") ∈ lw_all := lw_g (lw_at lw_m1 2 rfl) rfl
theorem q143 : (Jvm.Cond.instanceMethod ({ cls := "AntennaTuner$Impedance", name := "addInParallel", desc := "(J)V" } : Jvm.MethodName)) ∈ lw_all := lw_g (lw_at lw_m1 50 rfl) rfl
theorem q144 : (Jvm.Cond.selects "AntennaTuner$Impedance" ({ cls := "AntennaTuner$Impedance", name := "addInParallel", desc := "(J)V" } : Jvm.MethodName) ({ cls := "AntennaTuner$Impedance", name := "addInParallel", desc := "(J)V" } : Jvm.MethodName)) ∈ lw_all := lw_g (lw_at lw_m1 51 rfl) rfl
theorem q145 : (Jvm.Cond.code ({ cls := "AntennaTuner$Impedance", name := "addInParallel", desc := "(J)V" } : Jvm.MethodName) prog_5_method_4_code (11 : Nat) (Option.none : Option Jvm.ClassFile.FieldType)) ∈ lw_all := lw_g (lw_at lw_m1 52 rfl) rfl
theorem q146 : (Jvm.Cond.methodLink "AntennaTuner$Impedance" (18 : Nat) ({ cls := "AntennaTuner$Impedance", name := "square", desc := "()J" } : Jvm.MethodName)) ∈ lw_all := lw_g (lw_at lw_m1 53 rfl) rfl
theorem q147 : (Jvm.Cond.privateMethod ({ cls := "AntennaTuner$Impedance", name := "square", desc := "()J" } : Jvm.MethodName)) ∈ lw_tbl := lw_at lw_m1 54 rfl
theorem q148 : (Jvm.Cond.instanceMethod ({ cls := "AntennaTuner$Impedance", name := "square", desc := "()J" } : Jvm.MethodName)) ∈ lw_all := lw_g (lw_at lw_m1 55 rfl) rfl
theorem q149 : (Jvm.Cond.instantiable "AntennaTuner$Impedance" (2 : Nat)) ∈ lw_all := lw_g (lw_at lw_m1 56 rfl) rfl
theorem q150 : (Jvm.Cond.code ({ cls := "AntennaTuner$Impedance", name := "square", desc := "()J" } : Jvm.MethodName) prog_5_method_6_code (1 : Nat) (Option.some Jvm.ClassFile.FieldType.long)) ∈ lw_all := lw_g (lw_at lw_m1 57 rfl) rfl
theorem q151 : (Jvm.Cond.constantLong "AntennaTuner$Impedance" (22 : Nat) (10000000000 : Int64)) ∈ lw_all := lw_g (lw_at lw_m1 58 rfl) rfl
theorem q152 : (Jvm.Cond.constantLong "AntennaTuner$Impedance" (24 : Nat) (1000000000 : Int64)) ∈ lw_all := lw_g (lw_at lw_m1 59 rfl) rfl
theorem q153 : (Jvm.Cond.methodLink "AntennaTuner$Impedance" (26 : Nat) ({ cls := "AntennaTuner$Impedance", name := "set", desc := "(JJ)V" } : Jvm.MethodName)) ∈ lw_all := lw_g (lw_at lw_m1 60 rfl) rfl
theorem q154 : (Jvm.Cond.instanceMethod ({ cls := "AntennaTuner$Impedance", name := "set", desc := "(JJ)V" } : Jvm.MethodName)) ∈ lw_all := lw_g (lw_at lw_m1 61 rfl) rfl
theorem q155 : (Jvm.Cond.selects "AntennaTuner$Impedance" ({ cls := "AntennaTuner$Impedance", name := "set", desc := "(JJ)V" } : Jvm.MethodName) ({ cls := "AntennaTuner$Impedance", name := "set", desc := "(JJ)V" } : Jvm.MethodName)) ∈ lw_all := lw_g (lw_at lw_m1 62 rfl) rfl
theorem q156 : (Jvm.Cond.code ({ cls := "AntennaTuner$Impedance", name := "set", desc := "(JJ)V" } : Jvm.MethodName) prog_5_method_2_code (5 : Nat) (Option.none : Option Jvm.ClassFile.FieldType)) ∈ lw_all := lw_g (lw_at lw_m1 63 rfl) rfl
theorem q157 : (Jvm.Cond.methodLink "AntennaTuner$Impedance" (30 : Nat) ({ cls := "AntennaTuner$Impedance", name := "limited", desc := "(J)J" } : Jvm.MethodName)) ∈ lw_all := lw_g (lw_at lw_m1 64 rfl) rfl
theorem q158 : (Jvm.Cond.static ({ cls := "AntennaTuner$Impedance", name := "limited", desc := "(J)J" } : Jvm.MethodName)) ∈ lw_all := lw_g (lw_at lw_m1 65 rfl) rfl
theorem q159 : (Jvm.Cond.code ({ cls := "AntennaTuner$Impedance", name := "limited", desc := "(J)J" } : Jvm.MethodName) prog_5_method_5_code (2 : Nat) (Option.some Jvm.ClassFile.FieldType.long)) ∈ lw_all := lw_g (lw_at lw_m1 66 rfl) rfl
theorem q160 : (Jvm.Cond.constantLong "AntennaTuner$Impedance" (34 : Nat) (-1000000000 : Int64)) ∈ lw_all := lw_g (lw_at lw_m1 67 rfl) rfl
theorem q161 : (Jvm.Cond.methodLink "AntennaTuner$Impedance" (36 : Nat) ({ cls := "java/lang/Math", name := "min", desc := "(JJ)J" } : Jvm.MethodName)) ∈ lw_all := lw_g (lw_at lw_m1 68 rfl) rfl
theorem q164 : (Jvm.Cond.methodLink "AntennaTuner$Impedance" (42 : Nat) ({ cls := "java/lang/Math", name := "max", desc := "(JJ)J" } : Jvm.MethodName)) ∈ lw_all := lw_g (lw_at lw_m1 71 rfl) rfl
theorem q169 : (Jvm.Cond.instanceMethod ({ cls := "AntennaTuner$Impedance", name := "addInSeries", desc := "(JJ)V" } : Jvm.MethodName)) ∈ lw_all := lw_g (lw_at lw_m1 76 rfl) rfl
theorem q170 : (Jvm.Cond.selects "AntennaTuner$Impedance" ({ cls := "AntennaTuner$Impedance", name := "addInSeries", desc := "(JJ)V" } : Jvm.MethodName) ({ cls := "AntennaTuner$Impedance", name := "addInSeries", desc := "(JJ)V" } : Jvm.MethodName)) ∈ lw_all := lw_g (lw_at lw_m1 77 rfl) rfl
theorem q171 : (Jvm.Cond.code ({ cls := "AntennaTuner$Impedance", name := "addInSeries", desc := "(JJ)V" } : Jvm.MethodName) prog_5_method_3_code (5 : Nat) (Option.none : Option Jvm.ClassFile.FieldType)) ∈ lw_all := lw_g (lw_at lw_m1 78 rfl) rfl
theorem q216 : (Jvm.Cond.instanceMethod ({ cls := "AntennaTuner$Impedance", name := "<init>", desc := "()V" } : Jvm.MethodName)) ∈ lw_all := lw_g (lw_at lw_m1 123 rfl) rfl
theorem q217 : (Jvm.Cond.code ({ cls := "AntennaTuner$Impedance", name := "<init>", desc := "()V" } : Jvm.MethodName) prog_5_method_1_code (1 : Nat) (Option.none : Option Jvm.ClassFile.FieldType)) ∈ lw_all := lw_g (lw_at lw_m1 124 rfl) rfl
theorem q218 : (Jvm.Cond.methodLink "AntennaTuner$Impedance" (3 : Nat) ({ cls := "java/lang/Object", name := "<init>", desc := "()V" } : Jvm.MethodName)) ∈ lw_all := lw_g (lw_at lw_m1 125 rfl) rfl
theorem q219 : (Jvm.Cond.fieldLink "AntennaTuner$Impedance" (9 : Nat) "AntennaTuner$Impedance" "resistance" "J") ∈ lw_all := lw_g (lw_at lw_m1 126 rfl) rfl
theorem q222 : (Jvm.Cond.fieldLink "AntennaTuner$Impedance" (15 : Nat) "AntennaTuner$Impedance" "reactance" "J") ∈ lw_all := lw_g (lw_at lw_m1 129 rfl) rfl
theorem q224 : (Jvm.Cond.lays "AntennaTuner$Impedance" "AntennaTuner$Impedance" "resistance" "J") ∈ lw_all := lw_g (lw_at lw_m1 131 rfl) rfl
theorem q225 : (Jvm.Cond.soleField "AntennaTuner$Impedance" "resistance") ∈ lw_all := lw_g (lw_at lw_m1 132 rfl) rfl
theorem q226 : (Jvm.Cond.lays "AntennaTuner$Impedance" "AntennaTuner$Impedance" "reactance" "J") ∈ lw_all := lw_g (lw_at lw_m1 133 rfl) rfl
theorem q227 : (Jvm.Cond.soleField "AntennaTuner$Impedance" "reactance") ∈ lw_all := lw_g (lw_at lw_m1 134 rfl) rfl
theorem q228 : (Jvm.Cond.superclass "AntennaTuner$Impedance" "java/lang/Object") ∈ lw_all := lw_g (lw_at lw_m1 135 rfl) rfl
theorem q983 : (Jvm.Cond.selects "AntennaTuner$Impedance" ({ cls := "java/lang/Object", name := "getClass", desc := "()Ljava/lang/Class;" } : Jvm.MethodName) ({ cls := "java/lang/Object", name := "getClass", desc := "()Ljava/lang/Class;" } : Jvm.MethodName)) ∈ lw_all := lw_g (lw_at lw_m4 170 rfl) rfl
theorem q1124 : (Jvm.Cond.instanceMethod ({ cls := "AntennaTuner$Impedance", name := "swr", desc := "()I" } : Jvm.MethodName)) ∈ lw_all := lw_g (lw_at lw_m5 71 rfl) rfl
theorem q1125 : (Jvm.Cond.selects "AntennaTuner$Impedance" ({ cls := "AntennaTuner$Impedance", name := "swr", desc := "()I" } : Jvm.MethodName) ({ cls := "AntennaTuner$Impedance", name := "swr", desc := "()I" } : Jvm.MethodName)) ∈ lw_all := lw_g (lw_at lw_m5 72 rfl) rfl
theorem q1126 : (Jvm.Cond.code ({ cls := "AntennaTuner$Impedance", name := "swr", desc := "()I" } : Jvm.MethodName) prog_5_method_7_code (5 : Nat) (Option.some Jvm.ClassFile.FieldType.int)) ∈ lw_all := lw_g (lw_at lw_m5 73 rfl) rfl
theorem q1127 : (Jvm.Cond.constantLong "AntennaTuner$Impedance" (45 : Nat) (50000 : Int64)) ∈ lw_all := lw_g (lw_at lw_m5 74 rfl) rfl
theorem q1128 : (Jvm.Cond.methodLinkNest "AntennaTuner$Impedance" (47 : Nat) ({ cls := "AntennaTuner", name := "root", desc := "(J)J" } : Jvm.MethodName) "AntennaTuner") ∈ lw_tbl := lw_at lw_m5 75 rfl
theorem q1133 : (Jvm.Cond.constant "AntennaTuner$Impedance" (50 : Nat) (99999 : Int32)) ∈ lw_all := lw_g (lw_at lw_m5 80 rfl) rfl
theorem q1134 : (Jvm.Cond.constantLong "AntennaTuner$Impedance" (51 : Nat) (99999 : Int64)) ∈ lw_all := lw_g (lw_at lw_m5 81 rfl) rfl
theorem q1135 : (Jvm.Cond.constantLong "AntennaTuner$Impedance" (53 : Nat) (100 : Int64)) ∈ lw_all := lw_g (lw_at lw_m5 82 rfl) rfl
theorem q1175 : (Jvm.Cond.instanceMethod ({ cls := "AntennaTuner$Impedance", name := "voltageWith", desc := "(I)I" } : Jvm.MethodName)) ∈ lw_all := lw_g (lw_at lw_m5 122 rfl) rfl
theorem q1176 : (Jvm.Cond.selects "AntennaTuner$Impedance" ({ cls := "AntennaTuner$Impedance", name := "voltageWith", desc := "(I)I" } : Jvm.MethodName) ({ cls := "AntennaTuner$Impedance", name := "voltageWith", desc := "(I)I" } : Jvm.MethodName)) ∈ lw_all := lw_g (lw_at lw_m5 123 rfl) rfl
theorem q1177 : (Jvm.Cond.code ({ cls := "AntennaTuner$Impedance", name := "voltageWith", desc := "(I)I" } : Jvm.MethodName) prog_5_method_8_code (4 : Nat) (Option.some Jvm.ClassFile.FieldType.int)) ∈ lw_all := lw_g (lw_at lw_m5 124 rfl) rfl
theorem q1178 : (Jvm.Cond.constantLong "AntennaTuner$Impedance" (55 : Nat) (1000000000000 : Int64)) ∈ lw_all := lw_g (lw_at lw_m5 125 rfl) rfl
theorem q1179 : (Jvm.Cond.constantLong "AntennaTuner$Impedance" (57 : Nat) (1000 : Int64)) ∈ lw_all := lw_g (lw_at lw_m5 126 rfl) rfl
theorem q2214 : (Jvm.Cond.castable "AntennaTuner$Impedance" "java/lang/Object") ∈ lw_tbl := lw_at lw_m9 201 rfl
theorem in_X1 : ∀ w ∈ wsX10, w ∈ lw_all := lw_in wsX10 [224, 226] (by decide +kernel) (by decide +kernel)
/-! AntennaTuner$Setting -/
set_option maxRecDepth 100000
def RX2 : String := "AntennaTuner$Setting"
def TX2 : u_T := fun k => match k with
  | 0 => ("AntennaTuner$Setting", "side", "I", true)
  | 1 => ("AntennaTuner$Setting", "coil", "I", true)
  | _ => ("AntennaTuner$Setting", "capacitor", "I", true)
def tyX2 : Nat → FieldType := fun k => match k with
  | 0 => .int
  | 1 => .int
  | _ => .int
abbrev wsX20 : List Cond := u_ws RX2 TX2 3
theorem nmX2 : ∀ a, a < 3 → ∀ b, b < 3 → a ≠ b → (TX2 a).2.1 ≠ (TX2 b).2.1 := by decide +kernel
theorem tyX2_ok : ∀ k, k < 3 → parseFieldDescriptor (TX2 k).2.2.1 = some (tyX2 k) := by decide +kernel
abbrev cX2_init : ByteArray := prog_14_method_1_code
def yX2_init : MethodName := ⟨RX2, "<init>", "(III)V"⟩
def dkwX2_init_0 : List UInt8 := [42, 183, 0, 3, 42, 27, 181, 0, 9, 42, 28, 181, 0, 15, 42, 29, 181, 0, 18, 177]
abbrev dktX2_init_0 : List UInt8 := dkwX2_init_0 ++ []
theorem dksX2_init_0 : cX2_init.data.toList.drop 0 = dktX2_init_0 := by decide +kernel
theorem dX2_init_0 : decode cX2_init 0 = .ok (.aload_n 0, 1) := dk_42 (dk_at dksX2_init_0 0 rfl rfl)
theorem dX2_init_1 : decode cX2_init 1 = .ok (.invokespecial 3, 3) := dk_183 0 3 (dk_at dksX2_init_0 1 rfl rfl)
theorem dX2_init_4 : decode cX2_init 4 = .ok (.aload_n 0, 1) := dk_42 (dk_at dksX2_init_0 4 rfl rfl)
theorem dX2_init_5 : decode cX2_init 5 = .ok (.iload_n 1, 1) := dk_27 (dk_at dksX2_init_0 5 rfl rfl)
theorem dX2_init_6 : decode cX2_init 6 = .ok (.putfield 9, 3) := dk_181 0 9 (dk_at dksX2_init_0 6 rfl rfl)
theorem dX2_init_9 : decode cX2_init 9 = .ok (.aload_n 0, 1) := dk_42 (dk_at dksX2_init_0 9 rfl rfl)
theorem dX2_init_10 : decode cX2_init 10 = .ok (.iload_n 2, 1) := dk_28 (dk_at dksX2_init_0 10 rfl rfl)
theorem dX2_init_11 : decode cX2_init 11 = .ok (.putfield 15, 3) := dk_181 0 15 (dk_at dksX2_init_0 11 rfl rfl)
theorem dX2_init_14 : decode cX2_init 14 = .ok (.aload_n 0, 1) := dk_42 (dk_at dksX2_init_0 14 rfl rfl)
theorem dX2_init_15 : decode cX2_init 15 = .ok (.iload_n 3, 1) := dk_29 (dk_at dksX2_init_0 15 rfl rfl)
theorem dX2_init_16 : decode cX2_init 16 = .ok (.putfield 18, 3) := dk_181 0 18 (dk_at dksX2_init_0 16 rfl rfl)
theorem dX2_init_19 : decode cX2_init 19 = .ok (.return_, 1) := dk_177 (dk_at dksX2_init_0 19 rfl rfl)
abbrev cX2_of : ByteArray := prog_14_method_2_code
def yX2_of : MethodName := ⟨RX2, "of", "(I)LAntennaTuner$Setting;"⟩
def dkwX2_of_0 : List UInt8 := [187, 0, 10, 89, 26, 17, 16, 0, 108, 26, 16, 64, 108, 16, 64, 112, 26, 16, 64, 112, 183, 0, 21, 176]
abbrev dktX2_of_0 : List UInt8 := dkwX2_of_0 ++ []
theorem dksX2_of_0 : cX2_of.data.toList.drop 0 = dktX2_of_0 := by decide +kernel
theorem dX2_of_0 : decode cX2_of 0 = .ok (.new 10, 3) := dk_187 0 10 (dk_at dksX2_of_0 0 rfl rfl)
theorem dX2_of_3 : decode cX2_of 3 = .ok (.dup, 1) := dk_89 (dk_at dksX2_of_0 3 rfl rfl)
theorem dX2_of_4 : decode cX2_of 4 = .ok (.iload_n 0, 1) := dk_26 (dk_at dksX2_of_0 4 rfl rfl)
theorem dX2_of_5 : decode cX2_of 5 = .ok (.sipush 4096, 3) := dk_17 16 0 (dk_at dksX2_of_0 5 rfl rfl)
theorem dX2_of_8 : decode cX2_of 8 = .ok (.idiv, 1) := dk_108 (dk_at dksX2_of_0 8 rfl rfl)
theorem dX2_of_9 : decode cX2_of 9 = .ok (.iload_n 0, 1) := dk_26 (dk_at dksX2_of_0 9 rfl rfl)
theorem dX2_of_10 : decode cX2_of 10 = .ok (.bipush 64, 2) := dk_16 64 (dk_at dksX2_of_0 10 rfl rfl)
theorem dX2_of_12 : decode cX2_of 12 = .ok (.idiv, 1) := dk_108 (dk_at dksX2_of_0 12 rfl rfl)
theorem dX2_of_13 : decode cX2_of 13 = .ok (.bipush 64, 2) := dk_16 64 (dk_at dksX2_of_0 13 rfl rfl)
theorem dX2_of_15 : decode cX2_of 15 = .ok (.irem, 1) := dk_112 (dk_at dksX2_of_0 15 rfl rfl)
theorem dX2_of_16 : decode cX2_of 16 = .ok (.iload_n 0, 1) := dk_26 (dk_at dksX2_of_0 16 rfl rfl)
theorem dX2_of_17 : decode cX2_of 17 = .ok (.bipush 64, 2) := dk_16 64 (dk_at dksX2_of_0 17 rfl rfl)
theorem dX2_of_19 : decode cX2_of 19 = .ok (.irem, 1) := dk_112 (dk_at dksX2_of_0 19 rfl rfl)
theorem dX2_of_20 : decode cX2_of 20 = .ok (.invokespecial 21, 3) := dk_183 0 21 (dk_at dksX2_of_0 20 rfl rfl)
theorem dX2_of_23 : decode cX2_of 23 = .ok (.areturn, 1) := dk_176 (dk_at dksX2_of_0 23 rfl rfl)
abbrev cX2_code : ByteArray := prog_14_method_3_code
def yX2_code : MethodName := ⟨RX2, "code", "()I"⟩
def dkwX2_code_0 : List UInt8 := [17, 16, 0, 42, 180, 0, 9, 104, 16, 64, 42, 180, 0, 15, 104, 96, 42, 180, 0, 18, 96, 172]
abbrev dktX2_code_0 : List UInt8 := dkwX2_code_0 ++ []
theorem dksX2_code_0 : cX2_code.data.toList.drop 0 = dktX2_code_0 := by decide +kernel
theorem dX2_code_0 : decode cX2_code 0 = .ok (.sipush 4096, 3) := dk_17 16 0 (dk_at dksX2_code_0 0 rfl rfl)
theorem dX2_code_3 : decode cX2_code 3 = .ok (.aload_n 0, 1) := dk_42 (dk_at dksX2_code_0 3 rfl rfl)
theorem dX2_code_4 : decode cX2_code 4 = .ok (.getfield 9, 3) := dk_180 0 9 (dk_at dksX2_code_0 4 rfl rfl)
theorem dX2_code_7 : decode cX2_code 7 = .ok (.imul, 1) := dk_104 (dk_at dksX2_code_0 7 rfl rfl)
theorem dX2_code_8 : decode cX2_code 8 = .ok (.bipush 64, 2) := dk_16 64 (dk_at dksX2_code_0 8 rfl rfl)
theorem dX2_code_10 : decode cX2_code 10 = .ok (.aload_n 0, 1) := dk_42 (dk_at dksX2_code_0 10 rfl rfl)
theorem dX2_code_11 : decode cX2_code 11 = .ok (.getfield 15, 3) := dk_180 0 15 (dk_at dksX2_code_0 11 rfl rfl)
theorem dX2_code_14 : decode cX2_code 14 = .ok (.imul, 1) := dk_104 (dk_at dksX2_code_0 14 rfl rfl)
theorem dX2_code_15 : decode cX2_code 15 = .ok (.iadd, 1) := dk_96 (dk_at dksX2_code_0 15 rfl rfl)
theorem dX2_code_16 : decode cX2_code 16 = .ok (.aload_n 0, 1) := dk_42 (dk_at dksX2_code_0 16 rfl rfl)
theorem dX2_code_17 : decode cX2_code 17 = .ok (.getfield 18, 3) := dk_180 0 18 (dk_at dksX2_code_0 17 rfl rfl)
theorem dX2_code_20 : decode cX2_code 20 = .ok (.iadd, 1) := dk_96 (dk_at dksX2_code_0 20 rfl rfl)
theorem dX2_code_21 : decode cX2_code 21 = .ok (.ireturn, 1) := dk_172 (dk_at dksX2_code_0 21 rfl rfl)
abbrev cX2_isPossible : ByteArray := prog_14_method_4_code
def yX2_isPossible : MethodName := ⟨RX2, "isPossible", "()Z"⟩
def dkwX2_isPossible_1 : List UInt8 := [153, 0, 7, 4, 167, 0, 4, 3, 172]
abbrev dktX2_isPossible_1 : List UInt8 := dkwX2_isPossible_1 ++ []
def dkwX2_isPossible_0 : List UInt8 := [42, 180, 0, 15, 3, 16, 63, 184, 0, 24, 153, 0, 20, 42, 180, 0, 18, 3, 16, 63, 184, 0, 24]
abbrev dktX2_isPossible_0 : List UInt8 := dkwX2_isPossible_0 ++ dktX2_isPossible_1
theorem dksX2_isPossible_0 : cX2_isPossible.data.toList.drop 0 = dktX2_isPossible_0 := by decide +kernel
theorem dksX2_isPossible_1 : cX2_isPossible.data.toList.drop 23 = dktX2_isPossible_1 := dk_seg dksX2_isPossible_0 23 rfl rfl
theorem dX2_isPossible_0 : decode cX2_isPossible 0 = .ok (.aload_n 0, 1) := dk_42 (dk_at dksX2_isPossible_0 0 rfl rfl)
theorem dX2_isPossible_1 : decode cX2_isPossible 1 = .ok (.getfield 15, 3) := dk_180 0 15 (dk_at dksX2_isPossible_0 1 rfl rfl)
theorem dX2_isPossible_4 : decode cX2_isPossible 4 = .ok (.iconst 0, 1) := dk_3 (dk_at dksX2_isPossible_0 4 rfl rfl)
theorem dX2_isPossible_5 : decode cX2_isPossible 5 = .ok (.bipush 63, 2) := dk_16 63 (dk_at dksX2_isPossible_0 5 rfl rfl)
theorem dX2_isPossible_7 : decode cX2_isPossible 7 = .ok (.invokestatic 24, 3) := dk_184 0 24 (dk_at dksX2_isPossible_0 7 rfl rfl)
theorem dX2_isPossible_10 : decode cX2_isPossible 10 = .ok (.ifCond .eq 20, 3) := dk_153 0 20 (dk_at dksX2_isPossible_0 10 rfl rfl)
theorem dX2_isPossible_13 : decode cX2_isPossible 13 = .ok (.aload_n 0, 1) := dk_42 (dk_at dksX2_isPossible_0 13 rfl rfl)
theorem dX2_isPossible_14 : decode cX2_isPossible 14 = .ok (.getfield 18, 3) := dk_180 0 18 (dk_at dksX2_isPossible_0 14 rfl rfl)
theorem dX2_isPossible_17 : decode cX2_isPossible 17 = .ok (.iconst 0, 1) := dk_3 (dk_at dksX2_isPossible_0 17 rfl rfl)
theorem dX2_isPossible_18 : decode cX2_isPossible 18 = .ok (.bipush 63, 2) := dk_16 63 (dk_at dksX2_isPossible_0 18 rfl rfl)
theorem dX2_isPossible_20 : decode cX2_isPossible 20 = .ok (.invokestatic 24, 3) := dk_184 0 24 (dk_at dksX2_isPossible_0 20 rfl rfl)
theorem dX2_isPossible_23 : decode cX2_isPossible 23 = .ok (.ifCond .eq 7, 3) := dk_153 0 7 (dk_at dksX2_isPossible_1 0 rfl rfl)
theorem dX2_isPossible_26 : decode cX2_isPossible 26 = .ok (.iconst 1, 1) := dk_4 (dk_at dksX2_isPossible_1 3 rfl rfl)
theorem dX2_isPossible_27 : decode cX2_isPossible 27 = .ok (.goto 4, 3) := dk_167 0 4 (dk_at dksX2_isPossible_1 4 rfl rfl)
theorem dX2_isPossible_30 : decode cX2_isPossible 30 = .ok (.iconst 0, 1) := dk_3 (dk_at dksX2_isPossible_1 7 rfl rfl)
theorem dX2_isPossible_31 : decode cX2_isPossible 31 = .ok (.ireturn, 1) := dk_172 (dk_at dksX2_isPossible_1 8 rfl rfl)
theorem q97 : (Jvm.Cond.initialized "AntennaTuner$Setting") ∈ lw_all := lw_g (lw_at lw_m1 4 rfl) rfl
theorem q179 : (Jvm.Cond.instantiable "AntennaTuner$Setting" (3 : Nat)) ∈ lw_all := lw_g (lw_at lw_m1 86 rfl) rfl
theorem q181 : (Jvm.Cond.instanceMethod ({ cls := "AntennaTuner$Setting", name := "<init>", desc := "(III)V" } : Jvm.MethodName)) ∈ lw_all := lw_g (lw_at lw_m1 88 rfl) rfl
theorem q182 : (Jvm.Cond.code ({ cls := "AntennaTuner$Setting", name := "<init>", desc := "(III)V" } : Jvm.MethodName) prog_14_method_1_code (4 : Nat) (Option.none : Option Jvm.ClassFile.FieldType)) ∈ lw_all := lw_g (lw_at lw_m1 89 rfl) rfl
theorem q183 : (Jvm.Cond.methodLink "AntennaTuner$Setting" (3 : Nat) ({ cls := "java/lang/Object", name := "<init>", desc := "()V" } : Jvm.MethodName)) ∈ lw_all := lw_g (lw_at lw_m1 90 rfl) rfl
theorem q184 : (Jvm.Cond.fieldLink "AntennaTuner$Setting" (9 : Nat) "AntennaTuner$Setting" "side" "I") ∈ lw_all := lw_g (lw_at lw_m1 91 rfl) rfl
theorem q186 : (Jvm.Cond.fieldLink "AntennaTuner$Setting" (15 : Nat) "AntennaTuner$Setting" "coil" "I") ∈ lw_all := lw_g (lw_at lw_m1 93 rfl) rfl
theorem q189 : (Jvm.Cond.fieldLink "AntennaTuner$Setting" (18 : Nat) "AntennaTuner$Setting" "capacitor" "I") ∈ lw_all := lw_g (lw_at lw_m1 96 rfl) rfl
theorem q192 : (Jvm.Cond.laysFinal "AntennaTuner$Setting" "AntennaTuner$Setting" "side" "I") ∈ lw_all := lw_g (lw_at lw_m1 99 rfl) rfl
theorem q193 : (Jvm.Cond.soleField "AntennaTuner$Setting" "side") ∈ lw_all := lw_g (lw_at lw_m1 100 rfl) rfl
theorem q194 : (Jvm.Cond.laysFinal "AntennaTuner$Setting" "AntennaTuner$Setting" "coil" "I") ∈ lw_all := lw_g (lw_at lw_m1 101 rfl) rfl
theorem q195 : (Jvm.Cond.soleField "AntennaTuner$Setting" "coil") ∈ lw_all := lw_g (lw_at lw_m1 102 rfl) rfl
theorem q196 : (Jvm.Cond.laysFinal "AntennaTuner$Setting" "AntennaTuner$Setting" "capacitor" "I") ∈ lw_all := lw_g (lw_at lw_m1 103 rfl) rfl
theorem q197 : (Jvm.Cond.soleField "AntennaTuner$Setting" "capacitor") ∈ lw_all := lw_g (lw_at lw_m1 104 rfl) rfl
theorem q198 : (Jvm.Cond.superclass "AntennaTuner$Setting" "java/lang/Object") ∈ lw_all := lw_g (lw_at lw_m1 105 rfl) rfl
theorem q991 : (Jvm.Cond.selects "AntennaTuner$Setting" ({ cls := "java/lang/Object", name := "getClass", desc := "()Ljava/lang/Class;" } : Jvm.MethodName) ({ cls := "java/lang/Object", name := "getClass", desc := "()Ljava/lang/Class;" } : Jvm.MethodName)) ∈ lw_all := lw_g (lw_at lw_m4 178 rfl) rfl
theorem q1040 : (Jvm.Cond.static ({ cls := "AntennaTuner$Setting", name := "of", desc := "(I)LAntennaTuner$Setting;" } : Jvm.MethodName)) ∈ lw_all := lw_g (lw_at lw_m4 227 rfl) rfl
theorem q1041 : (Jvm.Cond.code ({ cls := "AntennaTuner$Setting", name := "of", desc := "(I)LAntennaTuner$Setting;" } : Jvm.MethodName) prog_14_method_2_code (1 : Nat) (Option.some (Jvm.ClassFile.FieldType.object "AntennaTuner$Setting"))) ∈ lw_all := lw_g (lw_at lw_m4 228 rfl) rfl
theorem q1042 : (Jvm.Cond.classLink "AntennaTuner$Setting" (10 : Nat) "AntennaTuner$Setting") ∈ lw_all := lw_g (lw_at lw_m4 229 rfl) rfl
theorem q1043 : (Jvm.Cond.methodLink "AntennaTuner$Setting" (21 : Nat) ({ cls := "AntennaTuner$Setting", name := "<init>", desc := "(III)V" } : Jvm.MethodName)) ∈ lw_all := lw_g (lw_at lw_m4 230 rfl) rfl
theorem q1049 : (Jvm.Cond.instanceMethod ({ cls := "AntennaTuner$Setting", name := "code", desc := "()I" } : Jvm.MethodName)) ∈ lw_all := lw_g (lw_at lw_m4 236 rfl) rfl
theorem q1050 : (Jvm.Cond.selects "AntennaTuner$Setting" ({ cls := "AntennaTuner$Setting", name := "code", desc := "()I" } : Jvm.MethodName) ({ cls := "AntennaTuner$Setting", name := "code", desc := "()I" } : Jvm.MethodName)) ∈ lw_all := lw_g (lw_at lw_m4 237 rfl) rfl
theorem q1051 : (Jvm.Cond.code ({ cls := "AntennaTuner$Setting", name := "code", desc := "()I" } : Jvm.MethodName) prog_14_method_3_code (1 : Nat) (Option.some Jvm.ClassFile.FieldType.int)) ∈ lw_all := lw_g (lw_at lw_m4 238 rfl) rfl
theorem q1268 : (Jvm.Cond.instanceMethod ({ cls := "AntennaTuner$Setting", name := "isPossible", desc := "()Z" } : Jvm.MethodName)) ∈ lw_all := lw_g (lw_at lw_m5 215 rfl) rfl
theorem q1269 : (Jvm.Cond.selects "AntennaTuner$Setting" ({ cls := "AntennaTuner$Setting", name := "isPossible", desc := "()Z" } : Jvm.MethodName) ({ cls := "AntennaTuner$Setting", name := "isPossible", desc := "()Z" } : Jvm.MethodName)) ∈ lw_all := lw_g (lw_at lw_m5 216 rfl) rfl
theorem q1270 : (Jvm.Cond.code ({ cls := "AntennaTuner$Setting", name := "isPossible", desc := "()Z" } : Jvm.MethodName) prog_14_method_4_code (1 : Nat) (Option.some Jvm.ClassFile.FieldType.boolean)) ∈ lw_all := lw_g (lw_at lw_m5 217 rfl) rfl
theorem q1271 : (Jvm.Cond.methodLinkNest "AntennaTuner$Setting" (24 : Nat) ({ cls := "AntennaTuner", name := "isIn", desc := "(III)Z" } : Jvm.MethodName) "AntennaTuner") ∈ lw_tbl := lw_at lw_m5 218 rfl
theorem q2212 : (Jvm.Cond.castable "AntennaTuner$Setting" "java/lang/Object") ∈ lw_tbl := lw_at lw_m9 199 rfl
theorem in_X2 : ∀ w ∈ wsX20, w ∈ lw_all := lw_in wsX20 [192, 194, 196] (by decide +kernel) (by decide +kernel)
/-! AntennaTuner$Circuit -/
set_option maxRecDepth 100000
def RX3 : String := "AntennaTuner$Circuit"
def TX3 : u_T := fun k => match k with
  | 0 => ("AntennaTuner$Circuit", "side", "I", false)
  | 1 => ("AntennaTuner$Circuit", "coil", "J", false)
  | 2 => ("AntennaTuner$Circuit", "loss", "J", false)
  | 3 => ("AntennaTuner$Circuit", "susceptance", "J", false)
  | 4 => ("AntennaTuner$Circuit", "loaded", "LAntennaTuner$Impedance;", true)
  | 5 => ("AntennaTuner$Circuit", "input", "LAntennaTuner$Impedance;", true)
  | _ => ("AntennaTuner$Circuit", "this$0", "LAntennaTuner;", true)
def tyX3 : Nat → FieldType := fun k => match k with
  | 0 => .int
  | 1 => .long
  | 2 => .long
  | 3 => .long
  | 4 => .object "AntennaTuner$Impedance"
  | 5 => .object "AntennaTuner$Impedance"
  | _ => .object "AntennaTuner"
abbrev wsX30 : List Cond := u_ws RX3 TX3 7
theorem nmX3 : ∀ a, a < 7 → ∀ b, b < 7 → a ≠ b → (TX3 a).2.1 ≠ (TX3 b).2.1 := by decide +kernel
theorem tyX3_ok : ∀ k, k < 7 → parseFieldDescriptor (TX3 k).2.2.1 = some (tyX3 k) := by decide +kernel
abbrev cX3_init : ByteArray := prog_2_method_1_code
def yX3_init : MethodName := ⟨RX3, "<init>", "(LAntennaTuner;)V"⟩
def dkwX3_init_1 : List UInt8 := [89, 183, 0, 15, 181, 0, 20, 177]
abbrev dktX3_init_1 : List UInt8 := dkwX3_init_1 ++ []
def dkwX3_init_0 : List UInt8 := [42, 43, 181, 0, 1, 42, 183, 0, 7, 42, 187, 0, 13, 89, 183, 0, 15, 181, 0, 16, 42, 187, 0, 13]
abbrev dktX3_init_0 : List UInt8 := dkwX3_init_0 ++ dktX3_init_1
theorem dksX3_init_0 : cX3_init.data.toList.drop 0 = dktX3_init_0 := by decide +kernel
theorem dksX3_init_1 : cX3_init.data.toList.drop 24 = dktX3_init_1 := dk_seg dksX3_init_0 24 rfl rfl
theorem dX3_init_0 : decode cX3_init 0 = .ok (.aload_n 0, 1) := dk_42 (dk_at dksX3_init_0 0 rfl rfl)
theorem dX3_init_1 : decode cX3_init 1 = .ok (.aload_n 1, 1) := dk_43 (dk_at dksX3_init_0 1 rfl rfl)
theorem dX3_init_2 : decode cX3_init 2 = .ok (.putfield 1, 3) := dk_181 0 1 (dk_at dksX3_init_0 2 rfl rfl)
theorem dX3_init_5 : decode cX3_init 5 = .ok (.aload_n 0, 1) := dk_42 (dk_at dksX3_init_0 5 rfl rfl)
theorem dX3_init_6 : decode cX3_init 6 = .ok (.invokespecial 7, 3) := dk_183 0 7 (dk_at dksX3_init_0 6 rfl rfl)
theorem dX3_init_9 : decode cX3_init 9 = .ok (.aload_n 0, 1) := dk_42 (dk_at dksX3_init_0 9 rfl rfl)
theorem dX3_init_10 : decode cX3_init 10 = .ok (.new 13, 3) := dk_187 0 13 (dk_at dksX3_init_0 10 rfl rfl)
theorem dX3_init_13 : decode cX3_init 13 = .ok (.dup, 1) := dk_89 (dk_at dksX3_init_0 13 rfl rfl)
theorem dX3_init_14 : decode cX3_init 14 = .ok (.invokespecial 15, 3) := dk_183 0 15 (dk_at dksX3_init_0 14 rfl rfl)
theorem dX3_init_17 : decode cX3_init 17 = .ok (.putfield 16, 3) := dk_181 0 16 (dk_at dksX3_init_0 17 rfl rfl)
theorem dX3_init_20 : decode cX3_init 20 = .ok (.aload_n 0, 1) := dk_42 (dk_at dksX3_init_0 20 rfl rfl)
theorem dX3_init_21 : decode cX3_init 21 = .ok (.new 13, 3) := dk_187 0 13 (dk_at dksX3_init_0 21 rfl rfl)
theorem dX3_init_24 : decode cX3_init 24 = .ok (.dup, 1) := dk_89 (dk_at dksX3_init_1 0 rfl rfl)
theorem dX3_init_25 : decode cX3_init 25 = .ok (.invokespecial 15, 3) := dk_183 0 15 (dk_at dksX3_init_1 1 rfl rfl)
theorem dX3_init_28 : decode cX3_init 28 = .ok (.putfield 20, 3) := dk_181 0 20 (dk_at dksX3_init_1 4 rfl rfl)
theorem dX3_init_31 : decode cX3_init 31 = .ok (.return_, 1) := dk_177 (dk_at dksX3_init_1 7 rfl rfl)
abbrev cX3_lay : ByteArray := prog_2_method_2_code
def yX3_lay : MethodName := ⟨RX3, "lay", "(II)LAntennaTuner$Circuit;"⟩
def dkwX3_lay_6 : List UInt8 := [185, 0, 75, 2, 0, 42, 176]
abbrev dktX3_lay_6 : List UInt8 := dkwX3_lay_6 ++ []
def dkwX3_lay_5 : List UInt8 := [180, 0, 29, 28, 182, 0, 64, 182, 0, 67, 42, 180, 0, 1, 180, 0, 71, 42, 180, 0, 23, 50, 42]
abbrev dktX3_lay_5 : List UInt8 := dkwX3_lay_5 ++ dktX3_lay_6
def dkwX3_lay_4 : List UInt8 := [181, 0, 57, 42, 180, 0, 20, 42, 180, 0, 1, 180, 0, 29, 28, 182, 0, 60, 42, 180, 0, 1]
abbrev dktX3_lay_4 : List UInt8 := dkwX3_lay_4 ++ dktX3_lay_5
def dkwX3_lay_3 : List UInt8 := [20, 0, 49, 109, 181, 0, 51, 42, 42, 180, 0, 42, 42, 180, 0, 1, 180, 0, 29, 180, 0, 54, 133, 109]
abbrev dktX3_lay_3 : List UInt8 := dkwX3_lay_3 ++ dktX3_lay_4
def dkwX3_lay_2 : List UInt8 := [20, 0, 27, 28, 133, 105, 42, 180, 0, 1, 180, 0, 29, 180, 0, 46, 133, 105, 27, 16, 64, 112, 133, 105]
abbrev dktX3_lay_2 : List UInt8 := dkwX3_lay_2 ++ dktX3_lay_3
def dkwX3_lay_1 : List UInt8 := [180, 0, 35, 133, 105, 27, 16, 64, 108, 16, 64, 112, 133, 105, 20, 0, 40, 109, 181, 0, 42, 42]
abbrev dktX3_lay_1 : List UInt8 := dkwX3_lay_1 ++ dktX3_lay_2
def dkwX3_lay_0 : List UInt8 := [42, 27, 17, 16, 0, 108, 181, 0, 23, 42, 20, 0, 27, 28, 133, 105, 42, 180, 0, 1, 180, 0, 29]
abbrev dktX3_lay_0 : List UInt8 := dkwX3_lay_0 ++ dktX3_lay_1
theorem dksX3_lay_0 : cX3_lay.data.toList.drop 0 = dktX3_lay_0 := by decide +kernel
theorem dksX3_lay_1 : cX3_lay.data.toList.drop 23 = dktX3_lay_1 := dk_seg dksX3_lay_0 23 rfl rfl
theorem dksX3_lay_2 : cX3_lay.data.toList.drop 45 = dktX3_lay_2 := dk_seg dksX3_lay_1 22 rfl rfl
theorem dksX3_lay_3 : cX3_lay.data.toList.drop 69 = dktX3_lay_3 := dk_seg dksX3_lay_2 24 rfl rfl
theorem dksX3_lay_4 : cX3_lay.data.toList.drop 93 = dktX3_lay_4 := dk_seg dksX3_lay_3 24 rfl rfl
theorem dksX3_lay_5 : cX3_lay.data.toList.drop 115 = dktX3_lay_5 := dk_seg dksX3_lay_4 22 rfl rfl
theorem dksX3_lay_6 : cX3_lay.data.toList.drop 138 = dktX3_lay_6 := dk_seg dksX3_lay_5 23 rfl rfl
theorem dX3_lay_0 : decode cX3_lay 0 = .ok (.aload_n 0, 1) := dk_42 (dk_at dksX3_lay_0 0 rfl rfl)
theorem dX3_lay_1 : decode cX3_lay 1 = .ok (.iload_n 1, 1) := dk_27 (dk_at dksX3_lay_0 1 rfl rfl)
theorem dX3_lay_2 : decode cX3_lay 2 = .ok (.sipush 4096, 3) := dk_17 16 0 (dk_at dksX3_lay_0 2 rfl rfl)
theorem dX3_lay_5 : decode cX3_lay 5 = .ok (.idiv, 1) := dk_108 (dk_at dksX3_lay_0 5 rfl rfl)
theorem dX3_lay_6 : decode cX3_lay 6 = .ok (.putfield 23, 3) := dk_181 0 23 (dk_at dksX3_lay_0 6 rfl rfl)
theorem dX3_lay_9 : decode cX3_lay 9 = .ok (.aload_n 0, 1) := dk_42 (dk_at dksX3_lay_0 9 rfl rfl)
theorem dX3_lay_10 : decode cX3_lay 10 = .ok (.ldc2_w 27, 3) := dk_20 0 27 (dk_at dksX3_lay_0 10 rfl rfl)
theorem dX3_lay_13 : decode cX3_lay 13 = .ok (.iload_n 2, 1) := dk_28 (dk_at dksX3_lay_0 13 rfl rfl)
theorem dX3_lay_14 : decode cX3_lay 14 = .ok (.i2l, 1) := dk_133 (dk_at dksX3_lay_0 14 rfl rfl)
theorem dX3_lay_15 : decode cX3_lay 15 = .ok (.lmul, 1) := dk_105 (dk_at dksX3_lay_0 15 rfl rfl)
theorem dX3_lay_16 : decode cX3_lay 16 = .ok (.aload_n 0, 1) := dk_42 (dk_at dksX3_lay_0 16 rfl rfl)
theorem dX3_lay_17 : decode cX3_lay 17 = .ok (.getfield 1, 3) := dk_180 0 1 (dk_at dksX3_lay_0 17 rfl rfl)
theorem dX3_lay_20 : decode cX3_lay 20 = .ok (.getfield 29, 3) := dk_180 0 29 (dk_at dksX3_lay_0 20 rfl rfl)
theorem dX3_lay_23 : decode cX3_lay 23 = .ok (.getfield 35, 3) := dk_180 0 35 (dk_at dksX3_lay_1 0 rfl rfl)
theorem dX3_lay_26 : decode cX3_lay 26 = .ok (.i2l, 1) := dk_133 (dk_at dksX3_lay_1 3 rfl rfl)
theorem dX3_lay_27 : decode cX3_lay 27 = .ok (.lmul, 1) := dk_105 (dk_at dksX3_lay_1 4 rfl rfl)
theorem dX3_lay_28 : decode cX3_lay 28 = .ok (.iload_n 1, 1) := dk_27 (dk_at dksX3_lay_1 5 rfl rfl)
theorem dX3_lay_29 : decode cX3_lay 29 = .ok (.bipush 64, 2) := dk_16 64 (dk_at dksX3_lay_1 6 rfl rfl)
theorem dX3_lay_31 : decode cX3_lay 31 = .ok (.idiv, 1) := dk_108 (dk_at dksX3_lay_1 8 rfl rfl)
theorem dX3_lay_32 : decode cX3_lay 32 = .ok (.bipush 64, 2) := dk_16 64 (dk_at dksX3_lay_1 9 rfl rfl)
theorem dX3_lay_34 : decode cX3_lay 34 = .ok (.irem, 1) := dk_112 (dk_at dksX3_lay_1 11 rfl rfl)
theorem dX3_lay_35 : decode cX3_lay 35 = .ok (.i2l, 1) := dk_133 (dk_at dksX3_lay_1 12 rfl rfl)
theorem dX3_lay_36 : decode cX3_lay 36 = .ok (.lmul, 1) := dk_105 (dk_at dksX3_lay_1 13 rfl rfl)
theorem dX3_lay_37 : decode cX3_lay 37 = .ok (.ldc2_w 40, 3) := dk_20 0 40 (dk_at dksX3_lay_1 14 rfl rfl)
theorem dX3_lay_40 : decode cX3_lay 40 = .ok (.ldiv, 1) := dk_109 (dk_at dksX3_lay_1 17 rfl rfl)
theorem dX3_lay_41 : decode cX3_lay 41 = .ok (.putfield 42, 3) := dk_181 0 42 (dk_at dksX3_lay_1 18 rfl rfl)
theorem dX3_lay_44 : decode cX3_lay 44 = .ok (.aload_n 0, 1) := dk_42 (dk_at dksX3_lay_1 21 rfl rfl)
theorem dX3_lay_45 : decode cX3_lay 45 = .ok (.ldc2_w 27, 3) := dk_20 0 27 (dk_at dksX3_lay_2 0 rfl rfl)
theorem dX3_lay_48 : decode cX3_lay 48 = .ok (.iload_n 2, 1) := dk_28 (dk_at dksX3_lay_2 3 rfl rfl)
theorem dX3_lay_49 : decode cX3_lay 49 = .ok (.i2l, 1) := dk_133 (dk_at dksX3_lay_2 4 rfl rfl)
theorem dX3_lay_50 : decode cX3_lay 50 = .ok (.lmul, 1) := dk_105 (dk_at dksX3_lay_2 5 rfl rfl)
theorem dX3_lay_51 : decode cX3_lay 51 = .ok (.aload_n 0, 1) := dk_42 (dk_at dksX3_lay_2 6 rfl rfl)
theorem dX3_lay_52 : decode cX3_lay 52 = .ok (.getfield 1, 3) := dk_180 0 1 (dk_at dksX3_lay_2 7 rfl rfl)
theorem dX3_lay_55 : decode cX3_lay 55 = .ok (.getfield 29, 3) := dk_180 0 29 (dk_at dksX3_lay_2 10 rfl rfl)
theorem dX3_lay_58 : decode cX3_lay 58 = .ok (.getfield 46, 3) := dk_180 0 46 (dk_at dksX3_lay_2 13 rfl rfl)
theorem dX3_lay_61 : decode cX3_lay 61 = .ok (.i2l, 1) := dk_133 (dk_at dksX3_lay_2 16 rfl rfl)
theorem dX3_lay_62 : decode cX3_lay 62 = .ok (.lmul, 1) := dk_105 (dk_at dksX3_lay_2 17 rfl rfl)
theorem dX3_lay_63 : decode cX3_lay 63 = .ok (.iload_n 1, 1) := dk_27 (dk_at dksX3_lay_2 18 rfl rfl)
theorem dX3_lay_64 : decode cX3_lay 64 = .ok (.bipush 64, 2) := dk_16 64 (dk_at dksX3_lay_2 19 rfl rfl)
theorem dX3_lay_66 : decode cX3_lay 66 = .ok (.irem, 1) := dk_112 (dk_at dksX3_lay_2 21 rfl rfl)
theorem dX3_lay_67 : decode cX3_lay 67 = .ok (.i2l, 1) := dk_133 (dk_at dksX3_lay_2 22 rfl rfl)
theorem dX3_lay_68 : decode cX3_lay 68 = .ok (.lmul, 1) := dk_105 (dk_at dksX3_lay_2 23 rfl rfl)
theorem dX3_lay_69 : decode cX3_lay 69 = .ok (.ldc2_w 49, 3) := dk_20 0 49 (dk_at dksX3_lay_3 0 rfl rfl)
theorem dX3_lay_72 : decode cX3_lay 72 = .ok (.ldiv, 1) := dk_109 (dk_at dksX3_lay_3 3 rfl rfl)
theorem dX3_lay_73 : decode cX3_lay 73 = .ok (.putfield 51, 3) := dk_181 0 51 (dk_at dksX3_lay_3 4 rfl rfl)
theorem dX3_lay_76 : decode cX3_lay 76 = .ok (.aload_n 0, 1) := dk_42 (dk_at dksX3_lay_3 7 rfl rfl)
theorem dX3_lay_77 : decode cX3_lay 77 = .ok (.aload_n 0, 1) := dk_42 (dk_at dksX3_lay_3 8 rfl rfl)
theorem dX3_lay_78 : decode cX3_lay 78 = .ok (.getfield 42, 3) := dk_180 0 42 (dk_at dksX3_lay_3 9 rfl rfl)
theorem dX3_lay_81 : decode cX3_lay 81 = .ok (.aload_n 0, 1) := dk_42 (dk_at dksX3_lay_3 12 rfl rfl)
theorem dX3_lay_82 : decode cX3_lay 82 = .ok (.getfield 1, 3) := dk_180 0 1 (dk_at dksX3_lay_3 13 rfl rfl)
theorem dX3_lay_85 : decode cX3_lay 85 = .ok (.getfield 29, 3) := dk_180 0 29 (dk_at dksX3_lay_3 16 rfl rfl)
theorem dX3_lay_88 : decode cX3_lay 88 = .ok (.getfield 54, 3) := dk_180 0 54 (dk_at dksX3_lay_3 19 rfl rfl)
theorem dX3_lay_91 : decode cX3_lay 91 = .ok (.i2l, 1) := dk_133 (dk_at dksX3_lay_3 22 rfl rfl)
theorem dX3_lay_92 : decode cX3_lay 92 = .ok (.ldiv, 1) := dk_109 (dk_at dksX3_lay_3 23 rfl rfl)
theorem dX3_lay_93 : decode cX3_lay 93 = .ok (.putfield 57, 3) := dk_181 0 57 (dk_at dksX3_lay_4 0 rfl rfl)
theorem dX3_lay_96 : decode cX3_lay 96 = .ok (.aload_n 0, 1) := dk_42 (dk_at dksX3_lay_4 3 rfl rfl)
theorem dX3_lay_97 : decode cX3_lay 97 = .ok (.getfield 20, 3) := dk_180 0 20 (dk_at dksX3_lay_4 4 rfl rfl)
theorem dX3_lay_100 : decode cX3_lay 100 = .ok (.aload_n 0, 1) := dk_42 (dk_at dksX3_lay_4 7 rfl rfl)
theorem dX3_lay_101 : decode cX3_lay 101 = .ok (.getfield 1, 3) := dk_180 0 1 (dk_at dksX3_lay_4 8 rfl rfl)
theorem dX3_lay_104 : decode cX3_lay 104 = .ok (.getfield 29, 3) := dk_180 0 29 (dk_at dksX3_lay_4 11 rfl rfl)
theorem dX3_lay_107 : decode cX3_lay 107 = .ok (.iload_n 2, 1) := dk_28 (dk_at dksX3_lay_4 14 rfl rfl)
theorem dX3_lay_108 : decode cX3_lay 108 = .ok (.invokevirtual 60, 3) := dk_182 0 60 (dk_at dksX3_lay_4 15 rfl rfl)
theorem dX3_lay_111 : decode cX3_lay 111 = .ok (.aload_n 0, 1) := dk_42 (dk_at dksX3_lay_4 18 rfl rfl)
theorem dX3_lay_112 : decode cX3_lay 112 = .ok (.getfield 1, 3) := dk_180 0 1 (dk_at dksX3_lay_4 19 rfl rfl)
theorem dX3_lay_115 : decode cX3_lay 115 = .ok (.getfield 29, 3) := dk_180 0 29 (dk_at dksX3_lay_5 0 rfl rfl)
theorem dX3_lay_118 : decode cX3_lay 118 = .ok (.iload_n 2, 1) := dk_28 (dk_at dksX3_lay_5 3 rfl rfl)
theorem dX3_lay_119 : decode cX3_lay 119 = .ok (.invokevirtual 64, 3) := dk_182 0 64 (dk_at dksX3_lay_5 4 rfl rfl)
theorem dX3_lay_122 : decode cX3_lay 122 = .ok (.invokevirtual 67, 3) := dk_182 0 67 (dk_at dksX3_lay_5 7 rfl rfl)
theorem dX3_lay_125 : decode cX3_lay 125 = .ok (.aload_n 0, 1) := dk_42 (dk_at dksX3_lay_5 10 rfl rfl)
theorem dX3_lay_126 : decode cX3_lay 126 = .ok (.getfield 1, 3) := dk_180 0 1 (dk_at dksX3_lay_5 11 rfl rfl)
theorem dX3_lay_129 : decode cX3_lay 129 = .ok (.getfield 71, 3) := dk_180 0 71 (dk_at dksX3_lay_5 14 rfl rfl)
theorem dX3_lay_132 : decode cX3_lay 132 = .ok (.aload_n 0, 1) := dk_42 (dk_at dksX3_lay_5 17 rfl rfl)
theorem dX3_lay_133 : decode cX3_lay 133 = .ok (.getfield 23, 3) := dk_180 0 23 (dk_at dksX3_lay_5 18 rfl rfl)
theorem dX3_lay_136 : decode cX3_lay 136 = .ok (.aaload, 1) := dk_50 (dk_at dksX3_lay_5 21 rfl rfl)
theorem dX3_lay_137 : decode cX3_lay 137 = .ok (.aload_n 0, 1) := dk_42 (dk_at dksX3_lay_5 22 rfl rfl)
theorem dX3_lay_138 : decode cX3_lay 138 = .ok (.invokeinterface 75 2, 5) := by decide +kernel
theorem dX3_lay_143 : decode cX3_lay 143 = .ok (.aload_n 0, 1) := dk_42 (dk_at dksX3_lay_6 5 rfl rfl)
theorem dX3_lay_144 : decode cX3_lay 144 = .ok (.areturn, 1) := dk_176 (dk_at dksX3_lay_6 6 rfl rfl)
abbrev cX3_swr : ByteArray := prog_2_method_3_code
def yX3_swr : MethodName := ⟨RX3, "swr", "()I"⟩
def dkwX3_swr_0 : List UInt8 := [42, 180, 0, 20, 182, 0, 81, 172]
abbrev dktX3_swr_0 : List UInt8 := dkwX3_swr_0 ++ []
theorem dksX3_swr_0 : cX3_swr.data.toList.drop 0 = dktX3_swr_0 := by decide +kernel
theorem dX3_swr_0 : decode cX3_swr 0 = .ok (.aload_n 0, 1) := dk_42 (dk_at dksX3_swr_0 0 rfl rfl)
theorem dX3_swr_1 : decode cX3_swr 1 = .ok (.getfield 20, 3) := dk_180 0 20 (dk_at dksX3_swr_0 1 rfl rfl)
theorem dX3_swr_4 : decode cX3_swr 4 = .ok (.invokevirtual 81, 3) := dk_182 0 81 (dk_at dksX3_swr_0 4 rfl rfl)
theorem dX3_swr_7 : decode cX3_swr 7 = .ok (.ireturn, 1) := dk_172 (dk_at dksX3_swr_0 7 rfl rfl)
abbrev cX3_efficiency : ByteArray := prog_2_method_4_code
def yX3_efficiency : MethodName := ⟨RX3, "efficiency", "()I"⟩
def dkwX3_efficiency_1 : List UInt8 := [20, 0, 87, 42, 180, 0, 16, 180, 0, 85, 105, 31, 109, 136, 172]
abbrev dktX3_efficiency_1 : List UInt8 := dkwX3_efficiency_1 ++ []
def dkwX3_efficiency_0 : List UInt8 := [42, 180, 0, 16, 180, 0, 85, 42, 180, 0, 57, 97, 64, 31, 9, 148, 154, 0, 7, 3, 167, 0, 17]
abbrev dktX3_efficiency_0 : List UInt8 := dkwX3_efficiency_0 ++ dktX3_efficiency_1
theorem dksX3_efficiency_0 : cX3_efficiency.data.toList.drop 0 = dktX3_efficiency_0 := by decide +kernel
theorem dksX3_efficiency_1 : cX3_efficiency.data.toList.drop 23 = dktX3_efficiency_1 := dk_seg dksX3_efficiency_0 23 rfl rfl
theorem dX3_efficiency_0 : decode cX3_efficiency 0 = .ok (.aload_n 0, 1) := dk_42 (dk_at dksX3_efficiency_0 0 rfl rfl)
theorem dX3_efficiency_1 : decode cX3_efficiency 1 = .ok (.getfield 16, 3) := dk_180 0 16 (dk_at dksX3_efficiency_0 1 rfl rfl)
theorem dX3_efficiency_4 : decode cX3_efficiency 4 = .ok (.getfield 85, 3) := dk_180 0 85 (dk_at dksX3_efficiency_0 4 rfl rfl)
theorem dX3_efficiency_7 : decode cX3_efficiency 7 = .ok (.aload_n 0, 1) := dk_42 (dk_at dksX3_efficiency_0 7 rfl rfl)
theorem dX3_efficiency_8 : decode cX3_efficiency 8 = .ok (.getfield 57, 3) := dk_180 0 57 (dk_at dksX3_efficiency_0 8 rfl rfl)
theorem dX3_efficiency_11 : decode cX3_efficiency 11 = .ok (.ladd, 1) := dk_97 (dk_at dksX3_efficiency_0 11 rfl rfl)
theorem dX3_efficiency_12 : decode cX3_efficiency 12 = .ok (.lstore_n 1, 1) := dk_64 (dk_at dksX3_efficiency_0 12 rfl rfl)
theorem dX3_efficiency_13 : decode cX3_efficiency 13 = .ok (.lload_n 1, 1) := dk_31 (dk_at dksX3_efficiency_0 13 rfl rfl)
theorem dX3_efficiency_14 : decode cX3_efficiency 14 = .ok (.lconst 0, 1) := dk_9 (dk_at dksX3_efficiency_0 14 rfl rfl)
theorem dX3_efficiency_15 : decode cX3_efficiency 15 = .ok (.lcmp, 1) := dk_148 (dk_at dksX3_efficiency_0 15 rfl rfl)
theorem dX3_efficiency_16 : decode cX3_efficiency 16 = .ok (.ifCond .ne 7, 3) := dk_154 0 7 (dk_at dksX3_efficiency_0 16 rfl rfl)
theorem dX3_efficiency_19 : decode cX3_efficiency 19 = .ok (.iconst 0, 1) := dk_3 (dk_at dksX3_efficiency_0 19 rfl rfl)
theorem dX3_efficiency_20 : decode cX3_efficiency 20 = .ok (.goto 17, 3) := dk_167 0 17 (dk_at dksX3_efficiency_0 20 rfl rfl)
theorem dX3_efficiency_23 : decode cX3_efficiency 23 = .ok (.ldc2_w 87, 3) := dk_20 0 87 (dk_at dksX3_efficiency_1 0 rfl rfl)
theorem dX3_efficiency_26 : decode cX3_efficiency 26 = .ok (.aload_n 0, 1) := dk_42 (dk_at dksX3_efficiency_1 3 rfl rfl)
theorem dX3_efficiency_27 : decode cX3_efficiency 27 = .ok (.getfield 16, 3) := dk_180 0 16 (dk_at dksX3_efficiency_1 4 rfl rfl)
theorem dX3_efficiency_30 : decode cX3_efficiency 30 = .ok (.getfield 85, 3) := dk_180 0 85 (dk_at dksX3_efficiency_1 7 rfl rfl)
theorem dX3_efficiency_33 : decode cX3_efficiency 33 = .ok (.lmul, 1) := dk_105 (dk_at dksX3_efficiency_1 10 rfl rfl)
theorem dX3_efficiency_34 : decode cX3_efficiency 34 = .ok (.lload_n 1, 1) := dk_31 (dk_at dksX3_efficiency_1 11 rfl rfl)
theorem dX3_efficiency_35 : decode cX3_efficiency 35 = .ok (.ldiv, 1) := dk_109 (dk_at dksX3_efficiency_1 12 rfl rfl)
theorem dX3_efficiency_36 : decode cX3_efficiency 36 = .ok (.l2i, 1) := dk_136 (dk_at dksX3_efficiency_1 13 rfl rfl)
theorem dX3_efficiency_37 : decode cX3_efficiency 37 = .ok (.ireturn, 1) := dk_172 (dk_at dksX3_efficiency_1 14 rfl rfl)
abbrev cX3_voltage : ByteArray := prog_2_method_6_code
def yX3_voltage : MethodName := ⟨RX3, "voltage", "()I"⟩
def dkwX3_voltage_0 : List UInt8 := [42, 42, 180, 0, 1, 180, 0, 29, 180, 0, 96, 182, 0, 99, 172]
abbrev dktX3_voltage_0 : List UInt8 := dkwX3_voltage_0 ++ []
theorem dksX3_voltage_0 : cX3_voltage.data.toList.drop 0 = dktX3_voltage_0 := by decide +kernel
theorem dX3_voltage_0 : decode cX3_voltage 0 = .ok (.aload_n 0, 1) := dk_42 (dk_at dksX3_voltage_0 0 rfl rfl)
theorem dX3_voltage_1 : decode cX3_voltage 1 = .ok (.aload_n 0, 1) := dk_42 (dk_at dksX3_voltage_0 1 rfl rfl)
theorem dX3_voltage_2 : decode cX3_voltage 2 = .ok (.getfield 1, 3) := dk_180 0 1 (dk_at dksX3_voltage_0 2 rfl rfl)
theorem dX3_voltage_5 : decode cX3_voltage 5 = .ok (.getfield 29, 3) := dk_180 0 29 (dk_at dksX3_voltage_0 5 rfl rfl)
theorem dX3_voltage_8 : decode cX3_voltage 8 = .ok (.getfield 96, 3) := dk_180 0 96 (dk_at dksX3_voltage_0 8 rfl rfl)
theorem dX3_voltage_11 : decode cX3_voltage 11 = .ok (.invokevirtual 99, 3) := dk_182 0 99 (dk_at dksX3_voltage_0 11 rfl rfl)
theorem dX3_voltage_14 : decode cX3_voltage 14 = .ok (.ireturn, 1) := dk_172 (dk_at dksX3_voltage_0 14 rfl rfl)
abbrev cX3_voltageWith : ByteArray := prog_2_method_5_code
def yX3_voltageWith : MethodName := ⟨RX3, "voltageWith", "(I)I"⟩
def dkwX3_voltageWith_1 : List UInt8 := [167, 0, 11, 42, 180, 0, 20, 27, 182, 0, 92, 172]
abbrev dktX3_voltageWith_1 : List UInt8 := dkwX3_voltageWith_1 ++ []
def dkwX3_voltageWith_0 : List UInt8 := [42, 180, 0, 23, 154, 0, 23, 42, 180, 0, 16, 27, 42, 182, 0, 89, 104, 17, 3, 232, 108, 182, 0, 92]
abbrev dktX3_voltageWith_0 : List UInt8 := dkwX3_voltageWith_0 ++ dktX3_voltageWith_1
theorem dksX3_voltageWith_0 : cX3_voltageWith.data.toList.drop 0 = dktX3_voltageWith_0 := by decide +kernel
theorem dksX3_voltageWith_1 : cX3_voltageWith.data.toList.drop 24 = dktX3_voltageWith_1 := dk_seg dksX3_voltageWith_0 24 rfl rfl
theorem dX3_voltageWith_0 : decode cX3_voltageWith 0 = .ok (.aload_n 0, 1) := dk_42 (dk_at dksX3_voltageWith_0 0 rfl rfl)
theorem dX3_voltageWith_1 : decode cX3_voltageWith 1 = .ok (.getfield 23, 3) := dk_180 0 23 (dk_at dksX3_voltageWith_0 1 rfl rfl)
theorem dX3_voltageWith_4 : decode cX3_voltageWith 4 = .ok (.ifCond .ne 23, 3) := dk_154 0 23 (dk_at dksX3_voltageWith_0 4 rfl rfl)
theorem dX3_voltageWith_7 : decode cX3_voltageWith 7 = .ok (.aload_n 0, 1) := dk_42 (dk_at dksX3_voltageWith_0 7 rfl rfl)
theorem dX3_voltageWith_8 : decode cX3_voltageWith 8 = .ok (.getfield 16, 3) := dk_180 0 16 (dk_at dksX3_voltageWith_0 8 rfl rfl)
theorem dX3_voltageWith_11 : decode cX3_voltageWith 11 = .ok (.iload_n 1, 1) := dk_27 (dk_at dksX3_voltageWith_0 11 rfl rfl)
theorem dX3_voltageWith_12 : decode cX3_voltageWith 12 = .ok (.aload_n 0, 1) := dk_42 (dk_at dksX3_voltageWith_0 12 rfl rfl)
theorem dX3_voltageWith_13 : decode cX3_voltageWith 13 = .ok (.invokevirtual 89, 3) := dk_182 0 89 (dk_at dksX3_voltageWith_0 13 rfl rfl)
theorem dX3_voltageWith_16 : decode cX3_voltageWith 16 = .ok (.imul, 1) := dk_104 (dk_at dksX3_voltageWith_0 16 rfl rfl)
theorem dX3_voltageWith_17 : decode cX3_voltageWith 17 = .ok (.sipush 1000, 3) := dk_17 3 232 (dk_at dksX3_voltageWith_0 17 rfl rfl)
theorem dX3_voltageWith_20 : decode cX3_voltageWith 20 = .ok (.idiv, 1) := dk_108 (dk_at dksX3_voltageWith_0 20 rfl rfl)
theorem dX3_voltageWith_21 : decode cX3_voltageWith 21 = .ok (.invokevirtual 92, 3) := dk_182 0 92 (dk_at dksX3_voltageWith_0 21 rfl rfl)
theorem dX3_voltageWith_24 : decode cX3_voltageWith 24 = .ok (.goto 11, 3) := dk_167 0 11 (dk_at dksX3_voltageWith_1 0 rfl rfl)
theorem dX3_voltageWith_27 : decode cX3_voltageWith 27 = .ok (.aload_n 0, 1) := dk_42 (dk_at dksX3_voltageWith_1 3 rfl rfl)
theorem dX3_voltageWith_28 : decode cX3_voltageWith 28 = .ok (.getfield 20, 3) := dk_180 0 20 (dk_at dksX3_voltageWith_1 4 rfl rfl)
theorem dX3_voltageWith_31 : decode cX3_voltageWith 31 = .ok (.iload_n 1, 1) := dk_27 (dk_at dksX3_voltageWith_1 7 rfl rfl)
theorem dX3_voltageWith_32 : decode cX3_voltageWith 32 = .ok (.invokevirtual 92, 3) := dk_182 0 92 (dk_at dksX3_voltageWith_1 8 rfl rfl)
theorem dX3_voltageWith_35 : decode cX3_voltageWith 35 = .ok (.ireturn, 1) := dk_172 (dk_at dksX3_voltageWith_1 11 rfl rfl)
abbrev cX3_isOverloaded : ByteArray := prog_2_method_7_code
def yX3_isOverloaded : MethodName := ⟨RX3, "isOverloaded", "()Z"⟩
def dkwX3_isOverloaded_0 : List UInt8 := [42, 182, 0, 100, 42, 180, 0, 1, 180, 0, 29, 180, 0, 103, 164, 0, 7, 4, 167, 0, 4, 3, 172]
abbrev dktX3_isOverloaded_0 : List UInt8 := dkwX3_isOverloaded_0 ++ []
theorem dksX3_isOverloaded_0 : cX3_isOverloaded.data.toList.drop 0 = dktX3_isOverloaded_0 := by decide +kernel
theorem dX3_isOverloaded_0 : decode cX3_isOverloaded 0 = .ok (.aload_n 0, 1) := dk_42 (dk_at dksX3_isOverloaded_0 0 rfl rfl)
theorem dX3_isOverloaded_1 : decode cX3_isOverloaded 1 = .ok (.invokevirtual 100, 3) := dk_182 0 100 (dk_at dksX3_isOverloaded_0 1 rfl rfl)
theorem dX3_isOverloaded_4 : decode cX3_isOverloaded 4 = .ok (.aload_n 0, 1) := dk_42 (dk_at dksX3_isOverloaded_0 4 rfl rfl)
theorem dX3_isOverloaded_5 : decode cX3_isOverloaded 5 = .ok (.getfield 1, 3) := dk_180 0 1 (dk_at dksX3_isOverloaded_0 5 rfl rfl)
theorem dX3_isOverloaded_8 : decode cX3_isOverloaded 8 = .ok (.getfield 29, 3) := dk_180 0 29 (dk_at dksX3_isOverloaded_0 8 rfl rfl)
theorem dX3_isOverloaded_11 : decode cX3_isOverloaded 11 = .ok (.getfield 103, 3) := dk_180 0 103 (dk_at dksX3_isOverloaded_0 11 rfl rfl)
theorem dX3_isOverloaded_14 : decode cX3_isOverloaded 14 = .ok (.if_icmp .le 7, 3) := dk_164 0 7 (dk_at dksX3_isOverloaded_0 14 rfl rfl)
theorem dX3_isOverloaded_17 : decode cX3_isOverloaded 17 = .ok (.iconst 1, 1) := dk_4 (dk_at dksX3_isOverloaded_0 17 rfl rfl)
theorem dX3_isOverloaded_18 : decode cX3_isOverloaded 18 = .ok (.goto 4, 3) := dk_167 0 4 (dk_at dksX3_isOverloaded_0 18 rfl rfl)
theorem dX3_isOverloaded_21 : decode cX3_isOverloaded 21 = .ok (.iconst 0, 1) := dk_3 (dk_at dksX3_isOverloaded_0 21 rfl rfl)
theorem dX3_isOverloaded_22 : decode cX3_isOverloaded 22 = .ok (.ireturn, 1) := dk_172 (dk_at dksX3_isOverloaded_0 22 rfl rfl)
theorem q98 : (Jvm.Cond.initialized "AntennaTuner$Circuit") ∈ lw_all := lw_g (lw_at lw_m1 5 rfl) rfl
theorem q209 : (Jvm.Cond.instantiable "AntennaTuner$Circuit" (7 : Nat)) ∈ lw_all := lw_g (lw_at lw_m1 116 rfl) rfl
theorem q211 : (Jvm.Cond.instanceMethod ({ cls := "AntennaTuner$Circuit", name := "<init>", desc := "(LAntennaTuner;)V" } : Jvm.MethodName)) ∈ lw_all := lw_g (lw_at lw_m1 118 rfl) rfl
theorem q212 : (Jvm.Cond.code ({ cls := "AntennaTuner$Circuit", name := "<init>", desc := "(LAntennaTuner;)V" } : Jvm.MethodName) prog_2_method_1_code (2 : Nat) (Option.none : Option Jvm.ClassFile.FieldType)) ∈ lw_all := lw_g (lw_at lw_m1 119 rfl) rfl
theorem q213 : (Jvm.Cond.methodLink "AntennaTuner$Circuit" (7 : Nat) ({ cls := "java/lang/Object", name := "<init>", desc := "()V" } : Jvm.MethodName)) ∈ lw_all := lw_g (lw_at lw_m1 120 rfl) rfl
theorem q214 : (Jvm.Cond.classLink "AntennaTuner$Circuit" (13 : Nat) "AntennaTuner$Impedance") ∈ lw_all := lw_g (lw_at lw_m1 121 rfl) rfl
theorem q215 : (Jvm.Cond.methodLinkNest "AntennaTuner$Circuit" (15 : Nat) ({ cls := "AntennaTuner$Impedance", name := "<init>", desc := "()V" } : Jvm.MethodName) "AntennaTuner") ∈ lw_tbl := lw_at lw_m1 122 rfl
theorem q221 : (Jvm.Cond.fieldLinkNest "AntennaTuner$Circuit" (85 : Nat) "AntennaTuner$Impedance" "resistance" "J" "AntennaTuner") ∈ lw_tbl := lw_at lw_m1 128 rfl
theorem q229 : (Jvm.Cond.fieldLink "AntennaTuner$Circuit" (23 : Nat) "AntennaTuner$Circuit" "side" "I") ∈ lw_all := lw_g (lw_at lw_m1 136 rfl) rfl
theorem q230 : (Jvm.Cond.fieldLink "AntennaTuner$Circuit" (42 : Nat) "AntennaTuner$Circuit" "coil" "J") ∈ lw_all := lw_g (lw_at lw_m1 137 rfl) rfl
theorem q232 : (Jvm.Cond.fieldLink "AntennaTuner$Circuit" (57 : Nat) "AntennaTuner$Circuit" "loss" "J") ∈ lw_all := lw_g (lw_at lw_m1 139 rfl) rfl
theorem q234 : (Jvm.Cond.fieldLink "AntennaTuner$Circuit" (51 : Nat) "AntennaTuner$Circuit" "susceptance" "J") ∈ lw_all := lw_g (lw_at lw_m1 141 rfl) rfl
theorem q236 : (Jvm.Cond.fieldLink "AntennaTuner$Circuit" (16 : Nat) "AntennaTuner$Circuit" "loaded" "LAntennaTuner$Impedance;") ∈ lw_all := lw_g (lw_at lw_m1 143 rfl) rfl
theorem q238 : (Jvm.Cond.fieldLink "AntennaTuner$Circuit" (20 : Nat) "AntennaTuner$Circuit" "input" "LAntennaTuner$Impedance;") ∈ lw_all := lw_g (lw_at lw_m1 145 rfl) rfl
theorem q240 : (Jvm.Cond.fieldLink "AntennaTuner$Circuit" (1 : Nat) "AntennaTuner$Circuit" "this$0" "LAntennaTuner;") ∈ lw_all := lw_g (lw_at lw_m1 147 rfl) rfl
theorem q241 : (Jvm.Cond.lays "AntennaTuner$Circuit" "AntennaTuner$Circuit" "side" "I") ∈ lw_all := lw_g (lw_at lw_m1 148 rfl) rfl
theorem q242 : (Jvm.Cond.soleField "AntennaTuner$Circuit" "side") ∈ lw_all := lw_g (lw_at lw_m1 149 rfl) rfl
theorem q243 : (Jvm.Cond.lays "AntennaTuner$Circuit" "AntennaTuner$Circuit" "coil" "J") ∈ lw_all := lw_g (lw_at lw_m1 150 rfl) rfl
theorem q244 : (Jvm.Cond.soleField "AntennaTuner$Circuit" "coil") ∈ lw_all := lw_g (lw_at lw_m1 151 rfl) rfl
theorem q245 : (Jvm.Cond.lays "AntennaTuner$Circuit" "AntennaTuner$Circuit" "loss" "J") ∈ lw_all := lw_g (lw_at lw_m1 152 rfl) rfl
theorem q246 : (Jvm.Cond.soleField "AntennaTuner$Circuit" "loss") ∈ lw_all := lw_g (lw_at lw_m1 153 rfl) rfl
theorem q247 : (Jvm.Cond.lays "AntennaTuner$Circuit" "AntennaTuner$Circuit" "susceptance" "J") ∈ lw_all := lw_g (lw_at lw_m1 154 rfl) rfl
theorem q248 : (Jvm.Cond.soleField "AntennaTuner$Circuit" "susceptance") ∈ lw_all := lw_g (lw_at lw_m1 155 rfl) rfl
theorem q249 : (Jvm.Cond.laysFinal "AntennaTuner$Circuit" "AntennaTuner$Circuit" "loaded" "LAntennaTuner$Impedance;") ∈ lw_all := lw_g (lw_at lw_m1 156 rfl) rfl
theorem q250 : (Jvm.Cond.soleField "AntennaTuner$Circuit" "loaded") ∈ lw_all := lw_g (lw_at lw_m1 157 rfl) rfl
theorem q251 : (Jvm.Cond.laysFinal "AntennaTuner$Circuit" "AntennaTuner$Circuit" "input" "LAntennaTuner$Impedance;") ∈ lw_all := lw_g (lw_at lw_m1 158 rfl) rfl
theorem q252 : (Jvm.Cond.soleField "AntennaTuner$Circuit" "input") ∈ lw_all := lw_g (lw_at lw_m1 159 rfl) rfl
theorem q253 : (Jvm.Cond.laysFinal "AntennaTuner$Circuit" "AntennaTuner$Circuit" "this$0" "LAntennaTuner;") ∈ lw_all := lw_g (lw_at lw_m1 160 rfl) rfl
theorem q254 : (Jvm.Cond.soleField "AntennaTuner$Circuit" "this$0") ∈ lw_all := lw_g (lw_at lw_m1 161 rfl) rfl
theorem q255 : (Jvm.Cond.superclass "AntennaTuner$Circuit" "java/lang/Object") ∈ lw_all := lw_g (lw_at lw_m1 162 rfl) rfl
theorem q282 : (Jvm.Cond.fieldLinkNest "AntennaTuner$Circuit" (71 : Nat) "AntennaTuner" "wirings" "[LAntennaTuner$Wiring;" "AntennaTuner") ∈ lw_tbl := lw_at lw_m1 189 rfl
theorem q289 : (Jvm.Cond.fieldLinkNest "AntennaTuner$Circuit" (29 : Nat) "AntennaTuner" "tuner" "LAntennaTuner$Tuner;" "AntennaTuner") ∈ lw_tbl := lw_at lw_m1 196 rfl
theorem q351 : (Jvm.Cond.fieldLinkNest "AntennaTuner$Circuit" (35 : Nat) "AntennaTuner$Tuner" "inductance" "I" "AntennaTuner") ∈ lw_tbl := lw_at lw_m2 18 rfl
theorem q353 : (Jvm.Cond.fieldLinkNest "AntennaTuner$Circuit" (54 : Nat) "AntennaTuner$Tuner" "quality" "I" "AntennaTuner") ∈ lw_tbl := lw_at lw_m2 20 rfl
theorem q355 : (Jvm.Cond.fieldLinkNest "AntennaTuner$Circuit" (46 : Nat) "AntennaTuner$Tuner" "capacitance" "I" "AntennaTuner") ∈ lw_tbl := lw_at lw_m2 22 rfl
theorem q357 : (Jvm.Cond.fieldLinkNest "AntennaTuner$Circuit" (96 : Nat) "AntennaTuner$Tuner" "power" "I" "AntennaTuner") ∈ lw_tbl := lw_at lw_m2 24 rfl
theorem q359 : (Jvm.Cond.fieldLinkNest "AntennaTuner$Circuit" (103 : Nat) "AntennaTuner$Tuner" "ratedVoltage" "I" "AntennaTuner") ∈ lw_tbl := lw_at lw_m2 26 rfl
theorem q980 : (Jvm.Cond.selects "AntennaTuner$Circuit" ({ cls := "java/lang/Object", name := "getClass", desc := "()Ljava/lang/Class;" } : Jvm.MethodName) ({ cls := "java/lang/Object", name := "getClass", desc := "()Ljava/lang/Class;" } : Jvm.MethodName)) ∈ lw_all := lw_g (lw_at lw_m4 167 rfl) rfl
theorem q1098 : (Jvm.Cond.instanceMethod ({ cls := "AntennaTuner$Circuit", name := "lay", desc := "(II)LAntennaTuner$Circuit;" } : Jvm.MethodName)) ∈ lw_all := lw_g (lw_at lw_m5 45 rfl) rfl
theorem q1099 : (Jvm.Cond.selects "AntennaTuner$Circuit" ({ cls := "AntennaTuner$Circuit", name := "lay", desc := "(II)LAntennaTuner$Circuit;" } : Jvm.MethodName) ({ cls := "AntennaTuner$Circuit", name := "lay", desc := "(II)LAntennaTuner$Circuit;" } : Jvm.MethodName)) ∈ lw_all := lw_g (lw_at lw_m5 46 rfl) rfl
theorem q1100 : (Jvm.Cond.code ({ cls := "AntennaTuner$Circuit", name := "lay", desc := "(II)LAntennaTuner$Circuit;" } : Jvm.MethodName) prog_2_method_2_code (3 : Nat) (Option.some (Jvm.ClassFile.FieldType.object "AntennaTuner$Circuit"))) ∈ lw_all := lw_g (lw_at lw_m5 47 rfl) rfl
theorem q1101 : (Jvm.Cond.constantLong "AntennaTuner$Circuit" (27 : Nat) (6283 : Int64)) ∈ lw_all := lw_g (lw_at lw_m5 48 rfl) rfl
theorem q1102 : (Jvm.Cond.constantLong "AntennaTuner$Circuit" (40 : Nat) (1000000 : Int64)) ∈ lw_all := lw_g (lw_at lw_m5 49 rfl) rfl
theorem q1103 : (Jvm.Cond.constantLong "AntennaTuner$Circuit" (49 : Nat) (100000 : Int64)) ∈ lw_all := lw_g (lw_at lw_m5 50 rfl) rfl
theorem q1104 : (Jvm.Cond.methodLink "AntennaTuner$Circuit" (60 : Nat) ({ cls := "AntennaTuner$Tuner", name := "resistance", desc := "(I)J" } : Jvm.MethodName)) ∈ lw_all := lw_g (lw_at lw_m5 51 rfl) rfl
theorem q1105 : (Jvm.Cond.methodLink "AntennaTuner$Circuit" (64 : Nat) ({ cls := "AntennaTuner$Tuner", name := "reactance", desc := "(I)J" } : Jvm.MethodName)) ∈ lw_all := lw_g (lw_at lw_m5 52 rfl) rfl
theorem q1106 : (Jvm.Cond.methodLink "AntennaTuner$Circuit" (67 : Nat) ({ cls := "AntennaTuner$Impedance", name := "set", desc := "(JJ)V" } : Jvm.MethodName)) ∈ lw_all := lw_g (lw_at lw_m5 53 rfl) rfl
theorem q1107 : (Jvm.Cond.interfaceEntry "AntennaTuner$Circuit" (75 : Nat)) ∈ lw_tbl := lw_at lw_m5 54 rfl
theorem q1108 : (Jvm.Cond.methodLink "AntennaTuner$Circuit" (75 : Nat) ({ cls := "AntennaTuner$Wiring", name := "apply", desc := "(LAntennaTuner$Circuit;)V" } : Jvm.MethodName)) ∈ lw_all := lw_g (lw_at lw_m5 55 rfl) rfl
theorem q1120 : (Jvm.Cond.instanceMethod ({ cls := "AntennaTuner$Circuit", name := "swr", desc := "()I" } : Jvm.MethodName)) ∈ lw_all := lw_g (lw_at lw_m5 67 rfl) rfl
theorem q1121 : (Jvm.Cond.selects "AntennaTuner$Circuit" ({ cls := "AntennaTuner$Circuit", name := "swr", desc := "()I" } : Jvm.MethodName) ({ cls := "AntennaTuner$Circuit", name := "swr", desc := "()I" } : Jvm.MethodName)) ∈ lw_all := lw_g (lw_at lw_m5 68 rfl) rfl
theorem q1122 : (Jvm.Cond.code ({ cls := "AntennaTuner$Circuit", name := "swr", desc := "()I" } : Jvm.MethodName) prog_2_method_3_code (1 : Nat) (Option.some Jvm.ClassFile.FieldType.int)) ∈ lw_all := lw_g (lw_at lw_m5 69 rfl) rfl
theorem q1123 : (Jvm.Cond.methodLink "AntennaTuner$Circuit" (81 : Nat) ({ cls := "AntennaTuner$Impedance", name := "swr", desc := "()I" } : Jvm.MethodName)) ∈ lw_all := lw_g (lw_at lw_m5 70 rfl) rfl
theorem q1157 : (Jvm.Cond.instanceMethod ({ cls := "AntennaTuner$Circuit", name := "efficiency", desc := "()I" } : Jvm.MethodName)) ∈ lw_all := lw_g (lw_at lw_m5 104 rfl) rfl
theorem q1158 : (Jvm.Cond.selects "AntennaTuner$Circuit" ({ cls := "AntennaTuner$Circuit", name := "efficiency", desc := "()I" } : Jvm.MethodName) ({ cls := "AntennaTuner$Circuit", name := "efficiency", desc := "()I" } : Jvm.MethodName)) ∈ lw_all := lw_g (lw_at lw_m5 105 rfl) rfl
theorem q1159 : (Jvm.Cond.code ({ cls := "AntennaTuner$Circuit", name := "efficiency", desc := "()I" } : Jvm.MethodName) prog_2_method_4_code (3 : Nat) (Option.some Jvm.ClassFile.FieldType.int)) ∈ lw_all := lw_g (lw_at lw_m5 106 rfl) rfl
theorem q1160 : (Jvm.Cond.constantLong "AntennaTuner$Circuit" (87 : Nat) (1000 : Int64)) ∈ lw_all := lw_g (lw_at lw_m5 107 rfl) rfl
theorem q1166 : (Jvm.Cond.instanceMethod ({ cls := "AntennaTuner$Circuit", name := "voltage", desc := "()I" } : Jvm.MethodName)) ∈ lw_all := lw_g (lw_at lw_m5 113 rfl) rfl
theorem q1167 : (Jvm.Cond.selects "AntennaTuner$Circuit" ({ cls := "AntennaTuner$Circuit", name := "voltage", desc := "()I" } : Jvm.MethodName) ({ cls := "AntennaTuner$Circuit", name := "voltage", desc := "()I" } : Jvm.MethodName)) ∈ lw_all := lw_g (lw_at lw_m5 114 rfl) rfl
theorem q1168 : (Jvm.Cond.code ({ cls := "AntennaTuner$Circuit", name := "voltage", desc := "()I" } : Jvm.MethodName) prog_2_method_6_code (1 : Nat) (Option.some Jvm.ClassFile.FieldType.int)) ∈ lw_all := lw_g (lw_at lw_m5 115 rfl) rfl
theorem q1169 : (Jvm.Cond.methodLink "AntennaTuner$Circuit" (99 : Nat) ({ cls := "AntennaTuner$Circuit", name := "voltageWith", desc := "(I)I" } : Jvm.MethodName)) ∈ lw_all := lw_g (lw_at lw_m5 116 rfl) rfl
theorem q1170 : (Jvm.Cond.instanceMethod ({ cls := "AntennaTuner$Circuit", name := "voltageWith", desc := "(I)I" } : Jvm.MethodName)) ∈ lw_all := lw_g (lw_at lw_m5 117 rfl) rfl
theorem q1171 : (Jvm.Cond.selects "AntennaTuner$Circuit" ({ cls := "AntennaTuner$Circuit", name := "voltageWith", desc := "(I)I" } : Jvm.MethodName) ({ cls := "AntennaTuner$Circuit", name := "voltageWith", desc := "(I)I" } : Jvm.MethodName)) ∈ lw_all := lw_g (lw_at lw_m5 118 rfl) rfl
theorem q1172 : (Jvm.Cond.code ({ cls := "AntennaTuner$Circuit", name := "voltageWith", desc := "(I)I" } : Jvm.MethodName) prog_2_method_5_code (2 : Nat) (Option.some Jvm.ClassFile.FieldType.int)) ∈ lw_all := lw_g (lw_at lw_m5 119 rfl) rfl
theorem q1173 : (Jvm.Cond.methodLink "AntennaTuner$Circuit" (89 : Nat) ({ cls := "AntennaTuner$Circuit", name := "efficiency", desc := "()I" } : Jvm.MethodName)) ∈ lw_all := lw_g (lw_at lw_m5 120 rfl) rfl
theorem q1174 : (Jvm.Cond.methodLink "AntennaTuner$Circuit" (92 : Nat) ({ cls := "AntennaTuner$Impedance", name := "voltageWith", desc := "(I)I" } : Jvm.MethodName)) ∈ lw_all := lw_g (lw_at lw_m5 121 rfl) rfl
theorem q1210 : (Jvm.Cond.instanceMethod ({ cls := "AntennaTuner$Circuit", name := "isOverloaded", desc := "()Z" } : Jvm.MethodName)) ∈ lw_all := lw_g (lw_at lw_m5 157 rfl) rfl
theorem q1211 : (Jvm.Cond.selects "AntennaTuner$Circuit" ({ cls := "AntennaTuner$Circuit", name := "isOverloaded", desc := "()Z" } : Jvm.MethodName) ({ cls := "AntennaTuner$Circuit", name := "isOverloaded", desc := "()Z" } : Jvm.MethodName)) ∈ lw_all := lw_g (lw_at lw_m5 158 rfl) rfl
theorem q1212 : (Jvm.Cond.code ({ cls := "AntennaTuner$Circuit", name := "isOverloaded", desc := "()Z" } : Jvm.MethodName) prog_2_method_7_code (1 : Nat) (Option.some Jvm.ClassFile.FieldType.boolean)) ∈ lw_all := lw_g (lw_at lw_m5 159 rfl) rfl
theorem q1213 : (Jvm.Cond.methodLink "AntennaTuner$Circuit" (100 : Nat) ({ cls := "AntennaTuner$Circuit", name := "voltage", desc := "()I" } : Jvm.MethodName)) ∈ lw_all := lw_g (lw_at lw_m5 160 rfl) rfl
theorem q2213 : (Jvm.Cond.castable "AntennaTuner$Circuit" "java/lang/Object") ∈ lw_tbl := lw_at lw_m9 200 rfl
theorem in_X3 : ∀ w ∈ wsX30, w ∈ lw_all := lw_in wsX30 [241, 243, 245, 247, 249, 251, 253] (by decide +kernel) (by decide +kernel)
/-! AntennaTuner$Parser -/
set_option maxRecDepth 100000
def RX5 : String := "AntennaTuner$Parser"
def TX5 : u_T := fun k => match k with
  | 0 => ("AntennaTuner$Parser", "size", "I", true)
  | 1 => ("AntennaTuner$Parser", "result", "LAntennaTuner$Tuner;", true)
  | 2 => ("AntennaTuner$Parser", "start", "I", false)
  | 3 => ("AntennaTuner$Parser", "next", "I", false)
  | 4 => ("AntennaTuner$Parser", "kind", "I", false)
  | 5 => ("AntennaTuner$Parser", "value", "I", false)
  | 6 => ("AntennaTuner$Parser", "keyword", "Ljava/lang/String;", false)
  | _ => ("AntennaTuner$Parser", "this$0", "LAntennaTuner;", true)
def tyX5 : Nat → FieldType := fun k => match k with
  | 0 => .int
  | 1 => .object "AntennaTuner$Tuner"
  | 2 => .int
  | 3 => .int
  | 4 => .int
  | 5 => .int
  | 6 => .object "java/lang/String"
  | _ => .object "AntennaTuner"
abbrev wsX50 : List Cond := u_ws RX5 TX5 8
theorem nmX5 : ∀ a, a < 8 → ∀ b, b < 8 → a ≠ b → (TX5 a).2.1 ≠ (TX5 b).2.1 := by decide +kernel
theorem tyX5_ok : ∀ k, k < 8 → parseFieldDescriptor (TX5 k).2.2.1 = some (tyX5 k) := by decide +kernel
abbrev cX5_init : ByteArray := prog_11_method_1_code
def yX5_init : MethodName := ⟨RX5, "<init>", "(LAntennaTuner;)V"⟩
def dkwX5_init_1 : List UInt8 := [89, 183, 0, 24, 181, 0, 25, 42, 18, 29, 181, 0, 31, 177]
abbrev dktX5_init_1 : List UInt8 := dkwX5_init_1 ++ []
def dkwX5_init_0 : List UInt8 := [42, 43, 181, 0, 3, 42, 183, 0, 9, 42, 42, 180, 0, 3, 180, 0, 15, 181, 0, 19, 42, 187, 0, 22]
abbrev dktX5_init_0 : List UInt8 := dkwX5_init_0 ++ dktX5_init_1
theorem dksX5_init_0 : cX5_init.data.toList.drop 0 = dktX5_init_0 := by decide +kernel
theorem dksX5_init_1 : cX5_init.data.toList.drop 24 = dktX5_init_1 := dk_seg dksX5_init_0 24 rfl rfl
theorem dX5_init_0 : decode cX5_init 0 = .ok (.aload_n 0, 1) := dk_42 (dk_at dksX5_init_0 0 rfl rfl)
theorem dX5_init_1 : decode cX5_init 1 = .ok (.aload_n 1, 1) := dk_43 (dk_at dksX5_init_0 1 rfl rfl)
theorem dX5_init_2 : decode cX5_init 2 = .ok (.putfield 3, 3) := dk_181 0 3 (dk_at dksX5_init_0 2 rfl rfl)
theorem dX5_init_5 : decode cX5_init 5 = .ok (.aload_n 0, 1) := dk_42 (dk_at dksX5_init_0 5 rfl rfl)
theorem dX5_init_6 : decode cX5_init 6 = .ok (.invokespecial 9, 3) := dk_183 0 9 (dk_at dksX5_init_0 6 rfl rfl)
theorem dX5_init_9 : decode cX5_init 9 = .ok (.aload_n 0, 1) := dk_42 (dk_at dksX5_init_0 9 rfl rfl)
theorem dX5_init_10 : decode cX5_init 10 = .ok (.aload_n 0, 1) := dk_42 (dk_at dksX5_init_0 10 rfl rfl)
theorem dX5_init_11 : decode cX5_init 11 = .ok (.getfield 3, 3) := dk_180 0 3 (dk_at dksX5_init_0 11 rfl rfl)
theorem dX5_init_14 : decode cX5_init 14 = .ok (.getfield 15, 3) := dk_180 0 15 (dk_at dksX5_init_0 14 rfl rfl)
theorem dX5_init_17 : decode cX5_init 17 = .ok (.putfield 19, 3) := dk_181 0 19 (dk_at dksX5_init_0 17 rfl rfl)
theorem dX5_init_20 : decode cX5_init 20 = .ok (.aload_n 0, 1) := dk_42 (dk_at dksX5_init_0 20 rfl rfl)
theorem dX5_init_21 : decode cX5_init 21 = .ok (.new 22, 3) := dk_187 0 22 (dk_at dksX5_init_0 21 rfl rfl)
theorem dX5_init_24 : decode cX5_init 24 = .ok (.dup, 1) := dk_89 (dk_at dksX5_init_1 0 rfl rfl)
theorem dX5_init_25 : decode cX5_init 25 = .ok (.invokespecial 24, 3) := dk_183 0 24 (dk_at dksX5_init_1 1 rfl rfl)
theorem dX5_init_28 : decode cX5_init 28 = .ok (.putfield 25, 3) := dk_181 0 25 (dk_at dksX5_init_1 4 rfl rfl)
theorem dX5_init_31 : decode cX5_init 31 = .ok (.aload_n 0, 1) := dk_42 (dk_at dksX5_init_1 7 rfl rfl)
theorem dX5_init_32 : decode cX5_init 32 = .ok (.ldc 29, 2) := dk_18 29 (dk_at dksX5_init_1 8 rfl rfl)
theorem dX5_init_34 : decode cX5_init 34 = .ok (.putfield 31, 3) := dk_181 0 31 (dk_at dksX5_init_1 10 rfl rfl)
theorem dX5_init_37 : decode cX5_init 37 = .ok (.return_, 1) := dk_177 (dk_at dksX5_init_1 13 rfl rfl)
abbrev cX5_parse : ByteArray := prog_11_method_17_code
def yX5_parse : MethodName := ⟨RX5, "parse", "()LAntennaTuner$Tuner;"⟩
def dkwX5_parse_1 : List UInt8 := [180, 0, 53, 153, 0, 10, 42, 182, 0, 177, 167, 255, 245, 42, 180, 0, 25, 176]
abbrev dktX5_parse_1 : List UInt8 := dkwX5_parse_1 ++ []
def dkwX5_parse_0 : List UInt8 := [42, 182, 0, 102, 42, 182, 0, 172, 42, 182, 0, 175, 42, 18, 143, 182, 0, 94, 154, 255, 246, 42]
abbrev dktX5_parse_0 : List UInt8 := dkwX5_parse_0 ++ dktX5_parse_1
theorem dksX5_parse_0 : cX5_parse.data.toList.drop 0 = dktX5_parse_0 := by decide +kernel
theorem dksX5_parse_1 : cX5_parse.data.toList.drop 22 = dktX5_parse_1 := dk_seg dksX5_parse_0 22 rfl rfl
theorem dX5_parse_0 : decode cX5_parse 0 = .ok (.aload_n 0, 1) := dk_42 (dk_at dksX5_parse_0 0 rfl rfl)
theorem dX5_parse_1 : decode cX5_parse 1 = .ok (.invokevirtual 102, 3) := dk_182 0 102 (dk_at dksX5_parse_0 1 rfl rfl)
theorem dX5_parse_4 : decode cX5_parse 4 = .ok (.aload_n 0, 1) := dk_42 (dk_at dksX5_parse_0 4 rfl rfl)
theorem dX5_parse_5 : decode cX5_parse 5 = .ok (.invokevirtual 172, 3) := dk_182 0 172 (dk_at dksX5_parse_0 5 rfl rfl)
theorem dX5_parse_8 : decode cX5_parse 8 = .ok (.aload_n 0, 1) := dk_42 (dk_at dksX5_parse_0 8 rfl rfl)
theorem dX5_parse_9 : decode cX5_parse 9 = .ok (.invokevirtual 175, 3) := dk_182 0 175 (dk_at dksX5_parse_0 9 rfl rfl)
theorem dX5_parse_12 : decode cX5_parse 12 = .ok (.aload_n 0, 1) := dk_42 (dk_at dksX5_parse_0 12 rfl rfl)
theorem dX5_parse_13 : decode cX5_parse 13 = .ok (.ldc 143, 2) := dk_18 143 (dk_at dksX5_parse_0 13 rfl rfl)
theorem dX5_parse_15 : decode cX5_parse 15 = .ok (.invokevirtual 94, 3) := dk_182 0 94 (dk_at dksX5_parse_0 15 rfl rfl)
theorem dX5_parse_18 : decode cX5_parse 18 = .ok (.ifCond .ne (-10), 3) := dk_154 255 246 (dk_at dksX5_parse_0 18 rfl rfl)
theorem dX5_parse_21 : decode cX5_parse 21 = .ok (.aload_n 0, 1) := dk_42 (dk_at dksX5_parse_0 21 rfl rfl)
theorem dX5_parse_22 : decode cX5_parse 22 = .ok (.getfield 53, 3) := dk_180 0 53 (dk_at dksX5_parse_1 0 rfl rfl)
theorem dX5_parse_25 : decode cX5_parse 25 = .ok (.ifCond .eq 10, 3) := dk_153 0 10 (dk_at dksX5_parse_1 3 rfl rfl)
theorem dX5_parse_28 : decode cX5_parse 28 = .ok (.aload_n 0, 1) := dk_42 (dk_at dksX5_parse_1 6 rfl rfl)
theorem dX5_parse_29 : decode cX5_parse 29 = .ok (.invokevirtual 177, 3) := dk_182 0 177 (dk_at dksX5_parse_1 7 rfl rfl)
theorem dX5_parse_32 : decode cX5_parse 32 = .ok (.goto (-11), 3) := dk_167 255 245 (dk_at dksX5_parse_1 10 rfl rfl)
theorem dX5_parse_35 : decode cX5_parse 35 = .ok (.aload_n 0, 1) := dk_42 (dk_at dksX5_parse_1 13 rfl rfl)
theorem dX5_parse_36 : decode cX5_parse 36 = .ok (.getfield 25, 3) := dk_180 0 25 (dk_at dksX5_parse_1 14 rfl rfl)
theorem dX5_parse_39 : decode cX5_parse 39 = .ok (.areturn, 1) := dk_176 (dk_at dksX5_parse_1 17 rfl rfl)
abbrev cX5_advance : ByteArray := prog_11_method_5_code
def yX5_advance : MethodName := ⟨RX5, "advance", "()V"⟩
def dkwX5_advance_6 : List UInt8 := [16, 59, 160, 0, 7, 6, 167, 0, 4, 7, 181, 0, 53, 42, 89, 180, 0, 47, 4, 96, 181, 0, 47, 177]
abbrev dktX5_advance_6 : List UInt8 := dkwX5_advance_6 ++ []
def dkwX5_advance_5 : List UInt8 := [182, 0, 39, 16, 45, 160, 0, 10, 42, 182, 0, 66, 167, 0, 35, 42, 42, 42, 180, 0, 50, 182, 0, 39]
abbrev dktX5_advance_5 : List UInt8 := dkwX5_advance_5 ++ dktX5_advance_6
def dkwX5_advance_4 : List UInt8 := [182, 0, 60, 167, 0, 66, 42, 42, 180, 0, 50, 182, 0, 63, 154, 0, 16, 42, 42, 180, 0, 50]
abbrev dktX5_advance_4 : List UInt8 := dkwX5_advance_4 ++ dktX5_advance_5
def dkwX5_advance_3 : List UInt8 := [161, 0, 11, 42, 3, 181, 0, 53, 167, 0, 84, 42, 42, 180, 0, 50, 182, 0, 56, 153, 0, 10, 42]
abbrev dktX5_advance_3 : List UInt8 := dkwX5_advance_3 ++ dktX5_advance_4
def dkwX5_advance_2 : List UInt8 := [42, 42, 180, 0, 50, 181, 0, 47, 42, 18, 29, 181, 0, 31, 42, 180, 0, 50, 42, 180, 0, 19]
abbrev dktX5_advance_2 : List UInt8 := dkwX5_advance_2 ++ dktX5_advance_3
def dkwX5_advance_1 : List UInt8 := [180, 0, 50, 182, 0, 39, 16, 10, 160, 0, 16, 42, 89, 180, 0, 50, 4, 96, 181, 0, 50, 167, 255, 220]
abbrev dktX5_advance_1 : List UInt8 := dkwX5_advance_1 ++ dktX5_advance_2
def dkwX5_advance_0 : List UInt8 := [42, 42, 180, 0, 47, 181, 0, 50, 42, 42, 180, 0, 50, 182, 0, 39, 16, 32, 159, 0, 16, 42, 42]
abbrev dktX5_advance_0 : List UInt8 := dkwX5_advance_0 ++ dktX5_advance_1
theorem dksX5_advance_0 : cX5_advance.data.toList.drop 0 = dktX5_advance_0 := by decide +kernel
theorem dksX5_advance_1 : cX5_advance.data.toList.drop 23 = dktX5_advance_1 := dk_seg dksX5_advance_0 23 rfl rfl
theorem dksX5_advance_2 : cX5_advance.data.toList.drop 47 = dktX5_advance_2 := dk_seg dksX5_advance_1 24 rfl rfl
theorem dksX5_advance_3 : cX5_advance.data.toList.drop 69 = dktX5_advance_3 := dk_seg dksX5_advance_2 22 rfl rfl
theorem dksX5_advance_4 : cX5_advance.data.toList.drop 92 = dktX5_advance_4 := dk_seg dksX5_advance_3 23 rfl rfl
theorem dksX5_advance_5 : cX5_advance.data.toList.drop 114 = dktX5_advance_5 := dk_seg dksX5_advance_4 22 rfl rfl
theorem dksX5_advance_6 : cX5_advance.data.toList.drop 138 = dktX5_advance_6 := dk_seg dksX5_advance_5 24 rfl rfl
theorem dX5_advance_0 : decode cX5_advance 0 = .ok (.aload_n 0, 1) := dk_42 (dk_at dksX5_advance_0 0 rfl rfl)
theorem dX5_advance_1 : decode cX5_advance 1 = .ok (.aload_n 0, 1) := dk_42 (dk_at dksX5_advance_0 1 rfl rfl)
theorem dX5_advance_2 : decode cX5_advance 2 = .ok (.getfield 47, 3) := dk_180 0 47 (dk_at dksX5_advance_0 2 rfl rfl)
theorem dX5_advance_5 : decode cX5_advance 5 = .ok (.putfield 50, 3) := dk_181 0 50 (dk_at dksX5_advance_0 5 rfl rfl)
theorem dX5_advance_8 : decode cX5_advance 8 = .ok (.aload_n 0, 1) := dk_42 (dk_at dksX5_advance_0 8 rfl rfl)
theorem dX5_advance_9 : decode cX5_advance 9 = .ok (.aload_n 0, 1) := dk_42 (dk_at dksX5_advance_0 9 rfl rfl)
theorem dX5_advance_10 : decode cX5_advance 10 = .ok (.getfield 50, 3) := dk_180 0 50 (dk_at dksX5_advance_0 10 rfl rfl)
theorem dX5_advance_13 : decode cX5_advance 13 = .ok (.invokevirtual 39, 3) := dk_182 0 39 (dk_at dksX5_advance_0 13 rfl rfl)
theorem dX5_advance_16 : decode cX5_advance 16 = .ok (.bipush 32, 2) := dk_16 32 (dk_at dksX5_advance_0 16 rfl rfl)
theorem dX5_advance_18 : decode cX5_advance 18 = .ok (.if_icmp .eq 16, 3) := dk_159 0 16 (dk_at dksX5_advance_0 18 rfl rfl)
theorem dX5_advance_21 : decode cX5_advance 21 = .ok (.aload_n 0, 1) := dk_42 (dk_at dksX5_advance_0 21 rfl rfl)
theorem dX5_advance_22 : decode cX5_advance 22 = .ok (.aload_n 0, 1) := dk_42 (dk_at dksX5_advance_0 22 rfl rfl)
theorem dX5_advance_23 : decode cX5_advance 23 = .ok (.getfield 50, 3) := dk_180 0 50 (dk_at dksX5_advance_1 0 rfl rfl)
theorem dX5_advance_26 : decode cX5_advance 26 = .ok (.invokevirtual 39, 3) := dk_182 0 39 (dk_at dksX5_advance_1 3 rfl rfl)
theorem dX5_advance_29 : decode cX5_advance 29 = .ok (.bipush 10, 2) := dk_16 10 (dk_at dksX5_advance_1 6 rfl rfl)
theorem dX5_advance_31 : decode cX5_advance 31 = .ok (.if_icmp .ne 16, 3) := dk_160 0 16 (dk_at dksX5_advance_1 8 rfl rfl)
theorem dX5_advance_34 : decode cX5_advance 34 = .ok (.aload_n 0, 1) := dk_42 (dk_at dksX5_advance_1 11 rfl rfl)
theorem dX5_advance_35 : decode cX5_advance 35 = .ok (.dup, 1) := dk_89 (dk_at dksX5_advance_1 12 rfl rfl)
theorem dX5_advance_36 : decode cX5_advance 36 = .ok (.getfield 50, 3) := dk_180 0 50 (dk_at dksX5_advance_1 13 rfl rfl)
theorem dX5_advance_39 : decode cX5_advance 39 = .ok (.iconst 1, 1) := dk_4 (dk_at dksX5_advance_1 16 rfl rfl)
theorem dX5_advance_40 : decode cX5_advance 40 = .ok (.iadd, 1) := dk_96 (dk_at dksX5_advance_1 17 rfl rfl)
theorem dX5_advance_41 : decode cX5_advance 41 = .ok (.putfield 50, 3) := dk_181 0 50 (dk_at dksX5_advance_1 18 rfl rfl)
theorem dX5_advance_44 : decode cX5_advance 44 = .ok (.goto (-36), 3) := dk_167 255 220 (dk_at dksX5_advance_1 21 rfl rfl)
theorem dX5_advance_47 : decode cX5_advance 47 = .ok (.aload_n 0, 1) := dk_42 (dk_at dksX5_advance_2 0 rfl rfl)
theorem dX5_advance_48 : decode cX5_advance 48 = .ok (.aload_n 0, 1) := dk_42 (dk_at dksX5_advance_2 1 rfl rfl)
theorem dX5_advance_49 : decode cX5_advance 49 = .ok (.getfield 50, 3) := dk_180 0 50 (dk_at dksX5_advance_2 2 rfl rfl)
theorem dX5_advance_52 : decode cX5_advance 52 = .ok (.putfield 47, 3) := dk_181 0 47 (dk_at dksX5_advance_2 5 rfl rfl)
theorem dX5_advance_55 : decode cX5_advance 55 = .ok (.aload_n 0, 1) := dk_42 (dk_at dksX5_advance_2 8 rfl rfl)
theorem dX5_advance_56 : decode cX5_advance 56 = .ok (.ldc 29, 2) := dk_18 29 (dk_at dksX5_advance_2 9 rfl rfl)
theorem dX5_advance_58 : decode cX5_advance 58 = .ok (.putfield 31, 3) := dk_181 0 31 (dk_at dksX5_advance_2 11 rfl rfl)
theorem dX5_advance_61 : decode cX5_advance 61 = .ok (.aload_n 0, 1) := dk_42 (dk_at dksX5_advance_2 14 rfl rfl)
theorem dX5_advance_62 : decode cX5_advance 62 = .ok (.getfield 50, 3) := dk_180 0 50 (dk_at dksX5_advance_2 15 rfl rfl)
theorem dX5_advance_65 : decode cX5_advance 65 = .ok (.aload_n 0, 1) := dk_42 (dk_at dksX5_advance_2 18 rfl rfl)
theorem dX5_advance_66 : decode cX5_advance 66 = .ok (.getfield 19, 3) := dk_180 0 19 (dk_at dksX5_advance_2 19 rfl rfl)
theorem dX5_advance_69 : decode cX5_advance 69 = .ok (.if_icmp .lt 11, 3) := dk_161 0 11 (dk_at dksX5_advance_3 0 rfl rfl)
theorem dX5_advance_72 : decode cX5_advance 72 = .ok (.aload_n 0, 1) := dk_42 (dk_at dksX5_advance_3 3 rfl rfl)
theorem dX5_advance_73 : decode cX5_advance 73 = .ok (.iconst 0, 1) := dk_3 (dk_at dksX5_advance_3 4 rfl rfl)
theorem dX5_advance_74 : decode cX5_advance 74 = .ok (.putfield 53, 3) := dk_181 0 53 (dk_at dksX5_advance_3 5 rfl rfl)
theorem dX5_advance_77 : decode cX5_advance 77 = .ok (.goto 84, 3) := dk_167 0 84 (dk_at dksX5_advance_3 8 rfl rfl)
theorem dX5_advance_80 : decode cX5_advance 80 = .ok (.aload_n 0, 1) := dk_42 (dk_at dksX5_advance_3 11 rfl rfl)
theorem dX5_advance_81 : decode cX5_advance 81 = .ok (.aload_n 0, 1) := dk_42 (dk_at dksX5_advance_3 12 rfl rfl)
theorem dX5_advance_82 : decode cX5_advance 82 = .ok (.getfield 50, 3) := dk_180 0 50 (dk_at dksX5_advance_3 13 rfl rfl)
theorem dX5_advance_85 : decode cX5_advance 85 = .ok (.invokevirtual 56, 3) := dk_182 0 56 (dk_at dksX5_advance_3 16 rfl rfl)
theorem dX5_advance_88 : decode cX5_advance 88 = .ok (.ifCond .eq 10, 3) := dk_153 0 10 (dk_at dksX5_advance_3 19 rfl rfl)
theorem dX5_advance_91 : decode cX5_advance 91 = .ok (.aload_n 0, 1) := dk_42 (dk_at dksX5_advance_3 22 rfl rfl)
theorem dX5_advance_92 : decode cX5_advance 92 = .ok (.invokevirtual 60, 3) := dk_182 0 60 (dk_at dksX5_advance_4 0 rfl rfl)
theorem dX5_advance_95 : decode cX5_advance 95 = .ok (.goto 66, 3) := dk_167 0 66 (dk_at dksX5_advance_4 3 rfl rfl)
theorem dX5_advance_98 : decode cX5_advance 98 = .ok (.aload_n 0, 1) := dk_42 (dk_at dksX5_advance_4 6 rfl rfl)
theorem dX5_advance_99 : decode cX5_advance 99 = .ok (.aload_n 0, 1) := dk_42 (dk_at dksX5_advance_4 7 rfl rfl)
theorem dX5_advance_100 : decode cX5_advance 100 = .ok (.getfield 50, 3) := dk_180 0 50 (dk_at dksX5_advance_4 8 rfl rfl)
theorem dX5_advance_103 : decode cX5_advance 103 = .ok (.invokevirtual 63, 3) := dk_182 0 63 (dk_at dksX5_advance_4 11 rfl rfl)
theorem dX5_advance_106 : decode cX5_advance 106 = .ok (.ifCond .ne 16, 3) := dk_154 0 16 (dk_at dksX5_advance_4 14 rfl rfl)
theorem dX5_advance_109 : decode cX5_advance 109 = .ok (.aload_n 0, 1) := dk_42 (dk_at dksX5_advance_4 17 rfl rfl)
theorem dX5_advance_110 : decode cX5_advance 110 = .ok (.aload_n 0, 1) := dk_42 (dk_at dksX5_advance_4 18 rfl rfl)
theorem dX5_advance_111 : decode cX5_advance 111 = .ok (.getfield 50, 3) := dk_180 0 50 (dk_at dksX5_advance_4 19 rfl rfl)
theorem dX5_advance_114 : decode cX5_advance 114 = .ok (.invokevirtual 39, 3) := dk_182 0 39 (dk_at dksX5_advance_5 0 rfl rfl)
theorem dX5_advance_117 : decode cX5_advance 117 = .ok (.bipush 45, 2) := dk_16 45 (dk_at dksX5_advance_5 3 rfl rfl)
theorem dX5_advance_119 : decode cX5_advance 119 = .ok (.if_icmp .ne 10, 3) := dk_160 0 10 (dk_at dksX5_advance_5 5 rfl rfl)
theorem dX5_advance_122 : decode cX5_advance 122 = .ok (.aload_n 0, 1) := dk_42 (dk_at dksX5_advance_5 8 rfl rfl)
theorem dX5_advance_123 : decode cX5_advance 123 = .ok (.invokevirtual 66, 3) := dk_182 0 66 (dk_at dksX5_advance_5 9 rfl rfl)
theorem dX5_advance_126 : decode cX5_advance 126 = .ok (.goto 35, 3) := dk_167 0 35 (dk_at dksX5_advance_5 12 rfl rfl)
theorem dX5_advance_129 : decode cX5_advance 129 = .ok (.aload_n 0, 1) := dk_42 (dk_at dksX5_advance_5 15 rfl rfl)
theorem dX5_advance_130 : decode cX5_advance 130 = .ok (.aload_n 0, 1) := dk_42 (dk_at dksX5_advance_5 16 rfl rfl)
theorem dX5_advance_131 : decode cX5_advance 131 = .ok (.aload_n 0, 1) := dk_42 (dk_at dksX5_advance_5 17 rfl rfl)
theorem dX5_advance_132 : decode cX5_advance 132 = .ok (.getfield 50, 3) := dk_180 0 50 (dk_at dksX5_advance_5 18 rfl rfl)
theorem dX5_advance_135 : decode cX5_advance 135 = .ok (.invokevirtual 39, 3) := dk_182 0 39 (dk_at dksX5_advance_5 21 rfl rfl)
theorem dX5_advance_138 : decode cX5_advance 138 = .ok (.bipush 59, 2) := dk_16 59 (dk_at dksX5_advance_6 0 rfl rfl)
theorem dX5_advance_140 : decode cX5_advance 140 = .ok (.if_icmp .ne 7, 3) := dk_160 0 7 (dk_at dksX5_advance_6 2 rfl rfl)
theorem dX5_advance_143 : decode cX5_advance 143 = .ok (.iconst 3, 1) := dk_6 (dk_at dksX5_advance_6 5 rfl rfl)
theorem dX5_advance_144 : decode cX5_advance 144 = .ok (.goto 4, 3) := dk_167 0 4 (dk_at dksX5_advance_6 6 rfl rfl)
theorem dX5_advance_147 : decode cX5_advance 147 = .ok (.iconst 4, 1) := dk_7 (dk_at dksX5_advance_6 9 rfl rfl)
theorem dX5_advance_148 : decode cX5_advance 148 = .ok (.putfield 53, 3) := dk_181 0 53 (dk_at dksX5_advance_6 10 rfl rfl)
theorem dX5_advance_151 : decode cX5_advance 151 = .ok (.aload_n 0, 1) := dk_42 (dk_at dksX5_advance_6 13 rfl rfl)
theorem dX5_advance_152 : decode cX5_advance 152 = .ok (.dup, 1) := dk_89 (dk_at dksX5_advance_6 14 rfl rfl)
theorem dX5_advance_153 : decode cX5_advance 153 = .ok (.getfield 47, 3) := dk_180 0 47 (dk_at dksX5_advance_6 15 rfl rfl)
theorem dX5_advance_156 : decode cX5_advance 156 = .ok (.iconst 1, 1) := dk_4 (dk_at dksX5_advance_6 18 rfl rfl)
theorem dX5_advance_157 : decode cX5_advance 157 = .ok (.iadd, 1) := dk_96 (dk_at dksX5_advance_6 19 rfl rfl)
theorem dX5_advance_158 : decode cX5_advance 158 = .ok (.putfield 47, 3) := dk_181 0 47 (dk_at dksX5_advance_6 20 rfl rfl)
theorem dX5_advance_161 : decode cX5_advance 161 = .ok (.return_, 1) := dk_177 (dk_at dksX5_advance_6 23 rfl rfl)
abbrev cX5_byteAt : ByteArray := prog_11_method_2_code
def yX5_byteAt : MethodName := ⟨RX5, "byteAt", "(I)I"⟩
def dkwX5_byteAt_1 : List UInt8 := [2, 172]
abbrev dktX5_byteAt_1 : List UInt8 := dkwX5_byteAt_1 ++ []
def dkwX5_byteAt_0 : List UInt8 := [27, 42, 180, 0, 19, 162, 0, 19, 42, 180, 0, 3, 180, 0, 35, 27, 51, 17, 0, 255, 126, 167, 0, 4]
abbrev dktX5_byteAt_0 : List UInt8 := dkwX5_byteAt_0 ++ dktX5_byteAt_1
theorem dksX5_byteAt_0 : cX5_byteAt.data.toList.drop 0 = dktX5_byteAt_0 := by decide +kernel
theorem dksX5_byteAt_1 : cX5_byteAt.data.toList.drop 24 = dktX5_byteAt_1 := dk_seg dksX5_byteAt_0 24 rfl rfl
theorem dX5_byteAt_0 : decode cX5_byteAt 0 = .ok (.iload_n 1, 1) := dk_27 (dk_at dksX5_byteAt_0 0 rfl rfl)
theorem dX5_byteAt_1 : decode cX5_byteAt 1 = .ok (.aload_n 0, 1) := dk_42 (dk_at dksX5_byteAt_0 1 rfl rfl)
theorem dX5_byteAt_2 : decode cX5_byteAt 2 = .ok (.getfield 19, 3) := dk_180 0 19 (dk_at dksX5_byteAt_0 2 rfl rfl)
theorem dX5_byteAt_5 : decode cX5_byteAt 5 = .ok (.if_icmp .ge 19, 3) := dk_162 0 19 (dk_at dksX5_byteAt_0 5 rfl rfl)
theorem dX5_byteAt_8 : decode cX5_byteAt 8 = .ok (.aload_n 0, 1) := dk_42 (dk_at dksX5_byteAt_0 8 rfl rfl)
theorem dX5_byteAt_9 : decode cX5_byteAt 9 = .ok (.getfield 3, 3) := dk_180 0 3 (dk_at dksX5_byteAt_0 9 rfl rfl)
theorem dX5_byteAt_12 : decode cX5_byteAt 12 = .ok (.getfield 35, 3) := dk_180 0 35 (dk_at dksX5_byteAt_0 12 rfl rfl)
theorem dX5_byteAt_15 : decode cX5_byteAt 15 = .ok (.iload_n 1, 1) := dk_27 (dk_at dksX5_byteAt_0 15 rfl rfl)
theorem dX5_byteAt_16 : decode cX5_byteAt 16 = .ok (.baload, 1) := dk_51 (dk_at dksX5_byteAt_0 16 rfl rfl)
theorem dX5_byteAt_17 : decode cX5_byteAt 17 = .ok (.sipush 255, 3) := dk_17 0 255 (dk_at dksX5_byteAt_0 17 rfl rfl)
theorem dX5_byteAt_20 : decode cX5_byteAt 20 = .ok (.iand, 1) := dk_126 (dk_at dksX5_byteAt_0 20 rfl rfl)
theorem dX5_byteAt_21 : decode cX5_byteAt 21 = .ok (.goto 4, 3) := dk_167 0 4 (dk_at dksX5_byteAt_0 21 rfl rfl)
theorem dX5_byteAt_24 : decode cX5_byteAt 24 = .ok (.iconst (-1), 1) := dk_2 (dk_at dksX5_byteAt_1 0 rfl rfl)
theorem dX5_byteAt_25 : decode cX5_byteAt 25 = .ok (.ireturn, 1) := dk_172 (dk_at dksX5_byteAt_1 1 rfl rfl)
abbrev cX5_isLetter : ByteArray := prog_11_method_4_code
def yX5_isLetter : MethodName := ⟨RX5, "isLetter", "(I)Z"⟩
def dkwX5_isLetter_0 : List UInt8 := [42, 27, 182, 0, 39, 16, 97, 16, 122, 184, 0, 43, 172]
abbrev dktX5_isLetter_0 : List UInt8 := dkwX5_isLetter_0 ++ []
theorem dksX5_isLetter_0 : cX5_isLetter.data.toList.drop 0 = dktX5_isLetter_0 := by decide +kernel
theorem dX5_isLetter_0 : decode cX5_isLetter 0 = .ok (.aload_n 0, 1) := dk_42 (dk_at dksX5_isLetter_0 0 rfl rfl)
theorem dX5_isLetter_1 : decode cX5_isLetter 1 = .ok (.iload_n 1, 1) := dk_27 (dk_at dksX5_isLetter_0 1 rfl rfl)
theorem dX5_isLetter_2 : decode cX5_isLetter 2 = .ok (.invokevirtual 39, 3) := dk_182 0 39 (dk_at dksX5_isLetter_0 2 rfl rfl)
theorem dX5_isLetter_5 : decode cX5_isLetter 5 = .ok (.bipush 97, 2) := dk_16 97 (dk_at dksX5_isLetter_0 5 rfl rfl)
theorem dX5_isLetter_7 : decode cX5_isLetter 7 = .ok (.bipush 122, 2) := dk_16 122 (dk_at dksX5_isLetter_0 7 rfl rfl)
theorem dX5_isLetter_9 : decode cX5_isLetter 9 = .ok (.invokestatic 43, 3) := dk_184 0 43 (dk_at dksX5_isLetter_0 9 rfl rfl)
theorem dX5_isLetter_12 : decode cX5_isLetter 12 = .ok (.ireturn, 1) := dk_172 (dk_at dksX5_isLetter_0 12 rfl rfl)
abbrev cX5_scanKeyword : ByteArray := prog_11_method_6_code
def yX5_scanKeyword : MethodName := ⟨RX5, "scanKeyword", "()V"⟩
def dkwX5_scanKeyword_2 : List UInt8 := [42, 43, 182, 0, 76, 181, 0, 31, 42, 4, 181, 0, 53, 177]
abbrev dktX5_scanKeyword_2 : List UInt8 := dkwX5_scanKeyword_2 ++ []
def dkwX5_scanKeyword_1 : List UInt8 := [180, 0, 47, 182, 0, 39, 146, 182, 0, 72, 87, 42, 89, 180, 0, 47, 4, 96, 181, 0, 47, 167, 255, 221]
abbrev dktX5_scanKeyword_1 : List UInt8 := dkwX5_scanKeyword_1 ++ dktX5_scanKeyword_2
def dkwX5_scanKeyword_0 : List UInt8 := [187, 0, 69, 89, 183, 0, 71, 76, 42, 42, 180, 0, 47, 182, 0, 56, 153, 0, 30, 43, 42, 42]
abbrev dktX5_scanKeyword_0 : List UInt8 := dkwX5_scanKeyword_0 ++ dktX5_scanKeyword_1
theorem dksX5_scanKeyword_0 : cX5_scanKeyword.data.toList.drop 0 = dktX5_scanKeyword_0 := by decide +kernel
theorem dksX5_scanKeyword_1 : cX5_scanKeyword.data.toList.drop 22 = dktX5_scanKeyword_1 := dk_seg dksX5_scanKeyword_0 22 rfl rfl
theorem dksX5_scanKeyword_2 : cX5_scanKeyword.data.toList.drop 46 = dktX5_scanKeyword_2 := dk_seg dksX5_scanKeyword_1 24 rfl rfl
theorem dX5_scanKeyword_0 : decode cX5_scanKeyword 0 = .ok (.new 69, 3) := dk_187 0 69 (dk_at dksX5_scanKeyword_0 0 rfl rfl)
theorem dX5_scanKeyword_3 : decode cX5_scanKeyword 3 = .ok (.dup, 1) := dk_89 (dk_at dksX5_scanKeyword_0 3 rfl rfl)
theorem dX5_scanKeyword_4 : decode cX5_scanKeyword 4 = .ok (.invokespecial 71, 3) := dk_183 0 71 (dk_at dksX5_scanKeyword_0 4 rfl rfl)
theorem dX5_scanKeyword_7 : decode cX5_scanKeyword 7 = .ok (.astore_n 1, 1) := dk_76 (dk_at dksX5_scanKeyword_0 7 rfl rfl)
theorem dX5_scanKeyword_8 : decode cX5_scanKeyword 8 = .ok (.aload_n 0, 1) := dk_42 (dk_at dksX5_scanKeyword_0 8 rfl rfl)
theorem dX5_scanKeyword_9 : decode cX5_scanKeyword 9 = .ok (.aload_n 0, 1) := dk_42 (dk_at dksX5_scanKeyword_0 9 rfl rfl)
theorem dX5_scanKeyword_10 : decode cX5_scanKeyword 10 = .ok (.getfield 47, 3) := dk_180 0 47 (dk_at dksX5_scanKeyword_0 10 rfl rfl)
theorem dX5_scanKeyword_13 : decode cX5_scanKeyword 13 = .ok (.invokevirtual 56, 3) := dk_182 0 56 (dk_at dksX5_scanKeyword_0 13 rfl rfl)
theorem dX5_scanKeyword_16 : decode cX5_scanKeyword 16 = .ok (.ifCond .eq 30, 3) := dk_153 0 30 (dk_at dksX5_scanKeyword_0 16 rfl rfl)
theorem dX5_scanKeyword_19 : decode cX5_scanKeyword 19 = .ok (.aload_n 1, 1) := dk_43 (dk_at dksX5_scanKeyword_0 19 rfl rfl)
theorem dX5_scanKeyword_20 : decode cX5_scanKeyword 20 = .ok (.aload_n 0, 1) := dk_42 (dk_at dksX5_scanKeyword_0 20 rfl rfl)
theorem dX5_scanKeyword_21 : decode cX5_scanKeyword 21 = .ok (.aload_n 0, 1) := dk_42 (dk_at dksX5_scanKeyword_0 21 rfl rfl)
theorem dX5_scanKeyword_22 : decode cX5_scanKeyword 22 = .ok (.getfield 47, 3) := dk_180 0 47 (dk_at dksX5_scanKeyword_1 0 rfl rfl)
theorem dX5_scanKeyword_25 : decode cX5_scanKeyword 25 = .ok (.invokevirtual 39, 3) := dk_182 0 39 (dk_at dksX5_scanKeyword_1 3 rfl rfl)
theorem dX5_scanKeyword_28 : decode cX5_scanKeyword 28 = .ok (.i2c, 1) := dk_146 (dk_at dksX5_scanKeyword_1 6 rfl rfl)
theorem dX5_scanKeyword_29 : decode cX5_scanKeyword 29 = .ok (.invokevirtual 72, 3) := dk_182 0 72 (dk_at dksX5_scanKeyword_1 7 rfl rfl)
theorem dX5_scanKeyword_32 : decode cX5_scanKeyword 32 = .ok (.pop, 1) := dk_87 (dk_at dksX5_scanKeyword_1 10 rfl rfl)
theorem dX5_scanKeyword_33 : decode cX5_scanKeyword 33 = .ok (.aload_n 0, 1) := dk_42 (dk_at dksX5_scanKeyword_1 11 rfl rfl)
theorem dX5_scanKeyword_34 : decode cX5_scanKeyword 34 = .ok (.dup, 1) := dk_89 (dk_at dksX5_scanKeyword_1 12 rfl rfl)
theorem dX5_scanKeyword_35 : decode cX5_scanKeyword 35 = .ok (.getfield 47, 3) := dk_180 0 47 (dk_at dksX5_scanKeyword_1 13 rfl rfl)
theorem dX5_scanKeyword_38 : decode cX5_scanKeyword 38 = .ok (.iconst 1, 1) := dk_4 (dk_at dksX5_scanKeyword_1 16 rfl rfl)
theorem dX5_scanKeyword_39 : decode cX5_scanKeyword 39 = .ok (.iadd, 1) := dk_96 (dk_at dksX5_scanKeyword_1 17 rfl rfl)
theorem dX5_scanKeyword_40 : decode cX5_scanKeyword 40 = .ok (.putfield 47, 3) := dk_181 0 47 (dk_at dksX5_scanKeyword_1 18 rfl rfl)
theorem dX5_scanKeyword_43 : decode cX5_scanKeyword 43 = .ok (.goto (-35), 3) := dk_167 255 221 (dk_at dksX5_scanKeyword_1 21 rfl rfl)
theorem dX5_scanKeyword_46 : decode cX5_scanKeyword 46 = .ok (.aload_n 0, 1) := dk_42 (dk_at dksX5_scanKeyword_2 0 rfl rfl)
theorem dX5_scanKeyword_47 : decode cX5_scanKeyword 47 = .ok (.aload_n 1, 1) := dk_43 (dk_at dksX5_scanKeyword_2 1 rfl rfl)
theorem dX5_scanKeyword_48 : decode cX5_scanKeyword 48 = .ok (.invokevirtual 76, 3) := dk_182 0 76 (dk_at dksX5_scanKeyword_2 2 rfl rfl)
theorem dX5_scanKeyword_51 : decode cX5_scanKeyword 51 = .ok (.putfield 31, 3) := dk_181 0 31 (dk_at dksX5_scanKeyword_2 5 rfl rfl)
theorem dX5_scanKeyword_54 : decode cX5_scanKeyword 54 = .ok (.aload_n 0, 1) := dk_42 (dk_at dksX5_scanKeyword_2 8 rfl rfl)
theorem dX5_scanKeyword_55 : decode cX5_scanKeyword 55 = .ok (.iconst 1, 1) := dk_4 (dk_at dksX5_scanKeyword_2 9 rfl rfl)
theorem dX5_scanKeyword_56 : decode cX5_scanKeyword 56 = .ok (.putfield 53, 3) := dk_181 0 53 (dk_at dksX5_scanKeyword_2 10 rfl rfl)
theorem dX5_scanKeyword_59 : decode cX5_scanKeyword 59 = .ok (.return_, 1) := dk_177 (dk_at dksX5_scanKeyword_2 13 rfl rfl)
abbrev cX5_isDigit : ByteArray := prog_11_method_3_code
def yX5_isDigit : MethodName := ⟨RX5, "isDigit", "(I)Z"⟩
def dkwX5_isDigit_0 : List UInt8 := [42, 27, 182, 0, 39, 16, 48, 16, 57, 184, 0, 43, 172]
abbrev dktX5_isDigit_0 : List UInt8 := dkwX5_isDigit_0 ++ []
theorem dksX5_isDigit_0 : cX5_isDigit.data.toList.drop 0 = dktX5_isDigit_0 := by decide +kernel
theorem dX5_isDigit_0 : decode cX5_isDigit 0 = .ok (.aload_n 0, 1) := dk_42 (dk_at dksX5_isDigit_0 0 rfl rfl)
theorem dX5_isDigit_1 : decode cX5_isDigit 1 = .ok (.iload_n 1, 1) := dk_27 (dk_at dksX5_isDigit_0 1 rfl rfl)
theorem dX5_isDigit_2 : decode cX5_isDigit 2 = .ok (.invokevirtual 39, 3) := dk_182 0 39 (dk_at dksX5_isDigit_0 2 rfl rfl)
theorem dX5_isDigit_5 : decode cX5_isDigit 5 = .ok (.bipush 48, 2) := dk_16 48 (dk_at dksX5_isDigit_0 5 rfl rfl)
theorem dX5_isDigit_7 : decode cX5_isDigit 7 = .ok (.bipush 57, 2) := dk_16 57 (dk_at dksX5_isDigit_0 7 rfl rfl)
theorem dX5_isDigit_9 : decode cX5_isDigit 9 = .ok (.invokestatic 43, 3) := dk_184 0 43 (dk_at dksX5_isDigit_0 9 rfl rfl)
theorem dX5_isDigit_12 : decode cX5_isDigit 12 = .ok (.ireturn, 1) := dk_172 (dk_at dksX5_isDigit_0 12 rfl rfl)
abbrev cX5_scanNumber : ByteArray := prog_11_method_7_code
def yX5_scanNumber : MethodName := ⟨RX5, "scanNumber", "()V"⟩
def dkwX5_scanNumber_6 : List UInt8 := [7, 181, 0, 53, 177]
abbrev dktX5_scanNumber_6 : List UInt8 := dkwX5_scanNumber_6 ++ []
def dkwX5_scanNumber_5 : List UInt8 := [167, 0, 7, 42, 180, 0, 80, 181, 0, 80, 42, 28, 4, 8, 184, 0, 43, 153, 0, 7, 5, 167, 0, 4]
abbrev dktX5_scanNumber_5 : List UInt8 := dkwX5_scanNumber_5 ++ dktX5_scanNumber_6
def dkwX5_scanNumber_4 : List UInt8 := [89, 180, 0, 47, 4, 96, 181, 0, 47, 167, 255, 197, 42, 27, 153, 0, 11, 42, 180, 0, 80, 116]
abbrev dktX5_scanNumber_4 : List UInt8 := dkwX5_scanNumber_4 ++ dktX5_scanNumber_5
def dkwX5_scanNumber_3 : List UInt8 := [180, 0, 47, 182, 0, 39, 96, 16, 48, 100, 167, 0, 7, 42, 180, 0, 80, 181, 0, 80, 132, 2, 1, 42]
abbrev dktX5_scanNumber_3 : List UInt8 := dkwX5_scanNumber_3 ++ dktX5_scanNumber_4
def dkwX5_scanNumber_2 : List UInt8 := [180, 0, 47, 182, 0, 63, 153, 0, 54, 42, 28, 8, 162, 0, 25, 16, 10, 42, 180, 0, 80, 104, 42, 42]
abbrev dktX5_scanNumber_2 : List UInt8 := dkwX5_scanNumber_2 ++ dktX5_scanNumber_3
def dkwX5_scanNumber_1 : List UInt8 := [27, 153, 0, 7, 4, 167, 0, 4, 3, 96, 181, 0, 47, 3, 61, 42, 3, 181, 0, 80, 42, 42]
abbrev dktX5_scanNumber_1 : List UInt8 := dkwX5_scanNumber_1 ++ dktX5_scanNumber_2
def dkwX5_scanNumber_0 : List UInt8 := [42, 42, 180, 0, 47, 182, 0, 39, 16, 45, 160, 0, 7, 4, 167, 0, 4, 3, 60, 42, 89, 180, 0, 47]
abbrev dktX5_scanNumber_0 : List UInt8 := dkwX5_scanNumber_0 ++ dktX5_scanNumber_1
theorem dksX5_scanNumber_0 : cX5_scanNumber.data.toList.drop 0 = dktX5_scanNumber_0 := by decide +kernel
theorem dksX5_scanNumber_1 : cX5_scanNumber.data.toList.drop 24 = dktX5_scanNumber_1 := dk_seg dksX5_scanNumber_0 24 rfl rfl
theorem dksX5_scanNumber_2 : cX5_scanNumber.data.toList.drop 46 = dktX5_scanNumber_2 := dk_seg dksX5_scanNumber_1 22 rfl rfl
theorem dksX5_scanNumber_3 : cX5_scanNumber.data.toList.drop 70 = dktX5_scanNumber_3 := dk_seg dksX5_scanNumber_2 24 rfl rfl
theorem dksX5_scanNumber_4 : cX5_scanNumber.data.toList.drop 94 = dktX5_scanNumber_4 := dk_seg dksX5_scanNumber_3 24 rfl rfl
theorem dksX5_scanNumber_5 : cX5_scanNumber.data.toList.drop 116 = dktX5_scanNumber_5 := dk_seg dksX5_scanNumber_4 22 rfl rfl
theorem dksX5_scanNumber_6 : cX5_scanNumber.data.toList.drop 140 = dktX5_scanNumber_6 := dk_seg dksX5_scanNumber_5 24 rfl rfl
theorem dX5_scanNumber_0 : decode cX5_scanNumber 0 = .ok (.aload_n 0, 1) := dk_42 (dk_at dksX5_scanNumber_0 0 rfl rfl)
theorem dX5_scanNumber_1 : decode cX5_scanNumber 1 = .ok (.aload_n 0, 1) := dk_42 (dk_at dksX5_scanNumber_0 1 rfl rfl)
theorem dX5_scanNumber_2 : decode cX5_scanNumber 2 = .ok (.getfield 47, 3) := dk_180 0 47 (dk_at dksX5_scanNumber_0 2 rfl rfl)
theorem dX5_scanNumber_5 : decode cX5_scanNumber 5 = .ok (.invokevirtual 39, 3) := dk_182 0 39 (dk_at dksX5_scanNumber_0 5 rfl rfl)
theorem dX5_scanNumber_8 : decode cX5_scanNumber 8 = .ok (.bipush 45, 2) := dk_16 45 (dk_at dksX5_scanNumber_0 8 rfl rfl)
theorem dX5_scanNumber_10 : decode cX5_scanNumber 10 = .ok (.if_icmp .ne 7, 3) := dk_160 0 7 (dk_at dksX5_scanNumber_0 10 rfl rfl)
theorem dX5_scanNumber_13 : decode cX5_scanNumber 13 = .ok (.iconst 1, 1) := dk_4 (dk_at dksX5_scanNumber_0 13 rfl rfl)
theorem dX5_scanNumber_14 : decode cX5_scanNumber 14 = .ok (.goto 4, 3) := dk_167 0 4 (dk_at dksX5_scanNumber_0 14 rfl rfl)
theorem dX5_scanNumber_17 : decode cX5_scanNumber 17 = .ok (.iconst 0, 1) := dk_3 (dk_at dksX5_scanNumber_0 17 rfl rfl)
theorem dX5_scanNumber_18 : decode cX5_scanNumber 18 = .ok (.istore_n 1, 1) := dk_60 (dk_at dksX5_scanNumber_0 18 rfl rfl)
theorem dX5_scanNumber_19 : decode cX5_scanNumber 19 = .ok (.aload_n 0, 1) := dk_42 (dk_at dksX5_scanNumber_0 19 rfl rfl)
theorem dX5_scanNumber_20 : decode cX5_scanNumber 20 = .ok (.dup, 1) := dk_89 (dk_at dksX5_scanNumber_0 20 rfl rfl)
theorem dX5_scanNumber_21 : decode cX5_scanNumber 21 = .ok (.getfield 47, 3) := dk_180 0 47 (dk_at dksX5_scanNumber_0 21 rfl rfl)
theorem dX5_scanNumber_24 : decode cX5_scanNumber 24 = .ok (.iload_n 1, 1) := dk_27 (dk_at dksX5_scanNumber_1 0 rfl rfl)
theorem dX5_scanNumber_25 : decode cX5_scanNumber 25 = .ok (.ifCond .eq 7, 3) := dk_153 0 7 (dk_at dksX5_scanNumber_1 1 rfl rfl)
theorem dX5_scanNumber_28 : decode cX5_scanNumber 28 = .ok (.iconst 1, 1) := dk_4 (dk_at dksX5_scanNumber_1 4 rfl rfl)
theorem dX5_scanNumber_29 : decode cX5_scanNumber 29 = .ok (.goto 4, 3) := dk_167 0 4 (dk_at dksX5_scanNumber_1 5 rfl rfl)
theorem dX5_scanNumber_32 : decode cX5_scanNumber 32 = .ok (.iconst 0, 1) := dk_3 (dk_at dksX5_scanNumber_1 8 rfl rfl)
theorem dX5_scanNumber_33 : decode cX5_scanNumber 33 = .ok (.iadd, 1) := dk_96 (dk_at dksX5_scanNumber_1 9 rfl rfl)
theorem dX5_scanNumber_34 : decode cX5_scanNumber 34 = .ok (.putfield 47, 3) := dk_181 0 47 (dk_at dksX5_scanNumber_1 10 rfl rfl)
theorem dX5_scanNumber_37 : decode cX5_scanNumber 37 = .ok (.iconst 0, 1) := dk_3 (dk_at dksX5_scanNumber_1 13 rfl rfl)
theorem dX5_scanNumber_38 : decode cX5_scanNumber 38 = .ok (.istore_n 2, 1) := dk_61 (dk_at dksX5_scanNumber_1 14 rfl rfl)
theorem dX5_scanNumber_39 : decode cX5_scanNumber 39 = .ok (.aload_n 0, 1) := dk_42 (dk_at dksX5_scanNumber_1 15 rfl rfl)
theorem dX5_scanNumber_40 : decode cX5_scanNumber 40 = .ok (.iconst 0, 1) := dk_3 (dk_at dksX5_scanNumber_1 16 rfl rfl)
theorem dX5_scanNumber_41 : decode cX5_scanNumber 41 = .ok (.putfield 80, 3) := dk_181 0 80 (dk_at dksX5_scanNumber_1 17 rfl rfl)
theorem dX5_scanNumber_44 : decode cX5_scanNumber 44 = .ok (.aload_n 0, 1) := dk_42 (dk_at dksX5_scanNumber_1 20 rfl rfl)
theorem dX5_scanNumber_45 : decode cX5_scanNumber 45 = .ok (.aload_n 0, 1) := dk_42 (dk_at dksX5_scanNumber_1 21 rfl rfl)
theorem dX5_scanNumber_46 : decode cX5_scanNumber 46 = .ok (.getfield 47, 3) := dk_180 0 47 (dk_at dksX5_scanNumber_2 0 rfl rfl)
theorem dX5_scanNumber_49 : decode cX5_scanNumber 49 = .ok (.invokevirtual 63, 3) := dk_182 0 63 (dk_at dksX5_scanNumber_2 3 rfl rfl)
theorem dX5_scanNumber_52 : decode cX5_scanNumber 52 = .ok (.ifCond .eq 54, 3) := dk_153 0 54 (dk_at dksX5_scanNumber_2 6 rfl rfl)
theorem dX5_scanNumber_55 : decode cX5_scanNumber 55 = .ok (.aload_n 0, 1) := dk_42 (dk_at dksX5_scanNumber_2 9 rfl rfl)
theorem dX5_scanNumber_56 : decode cX5_scanNumber 56 = .ok (.iload_n 2, 1) := dk_28 (dk_at dksX5_scanNumber_2 10 rfl rfl)
theorem dX5_scanNumber_57 : decode cX5_scanNumber 57 = .ok (.iconst 5, 1) := dk_8 (dk_at dksX5_scanNumber_2 11 rfl rfl)
theorem dX5_scanNumber_58 : decode cX5_scanNumber 58 = .ok (.if_icmp .ge 25, 3) := dk_162 0 25 (dk_at dksX5_scanNumber_2 12 rfl rfl)
theorem dX5_scanNumber_61 : decode cX5_scanNumber 61 = .ok (.bipush 10, 2) := dk_16 10 (dk_at dksX5_scanNumber_2 15 rfl rfl)
theorem dX5_scanNumber_63 : decode cX5_scanNumber 63 = .ok (.aload_n 0, 1) := dk_42 (dk_at dksX5_scanNumber_2 17 rfl rfl)
theorem dX5_scanNumber_64 : decode cX5_scanNumber 64 = .ok (.getfield 80, 3) := dk_180 0 80 (dk_at dksX5_scanNumber_2 18 rfl rfl)
theorem dX5_scanNumber_67 : decode cX5_scanNumber 67 = .ok (.imul, 1) := dk_104 (dk_at dksX5_scanNumber_2 21 rfl rfl)
theorem dX5_scanNumber_68 : decode cX5_scanNumber 68 = .ok (.aload_n 0, 1) := dk_42 (dk_at dksX5_scanNumber_2 22 rfl rfl)
theorem dX5_scanNumber_69 : decode cX5_scanNumber 69 = .ok (.aload_n 0, 1) := dk_42 (dk_at dksX5_scanNumber_2 23 rfl rfl)
theorem dX5_scanNumber_70 : decode cX5_scanNumber 70 = .ok (.getfield 47, 3) := dk_180 0 47 (dk_at dksX5_scanNumber_3 0 rfl rfl)
theorem dX5_scanNumber_73 : decode cX5_scanNumber 73 = .ok (.invokevirtual 39, 3) := dk_182 0 39 (dk_at dksX5_scanNumber_3 3 rfl rfl)
theorem dX5_scanNumber_76 : decode cX5_scanNumber 76 = .ok (.iadd, 1) := dk_96 (dk_at dksX5_scanNumber_3 6 rfl rfl)
theorem dX5_scanNumber_77 : decode cX5_scanNumber 77 = .ok (.bipush 48, 2) := dk_16 48 (dk_at dksX5_scanNumber_3 7 rfl rfl)
theorem dX5_scanNumber_79 : decode cX5_scanNumber 79 = .ok (.isub, 1) := dk_100 (dk_at dksX5_scanNumber_3 9 rfl rfl)
theorem dX5_scanNumber_80 : decode cX5_scanNumber 80 = .ok (.goto 7, 3) := dk_167 0 7 (dk_at dksX5_scanNumber_3 10 rfl rfl)
theorem dX5_scanNumber_83 : decode cX5_scanNumber 83 = .ok (.aload_n 0, 1) := dk_42 (dk_at dksX5_scanNumber_3 13 rfl rfl)
theorem dX5_scanNumber_84 : decode cX5_scanNumber 84 = .ok (.getfield 80, 3) := dk_180 0 80 (dk_at dksX5_scanNumber_3 14 rfl rfl)
theorem dX5_scanNumber_87 : decode cX5_scanNumber 87 = .ok (.putfield 80, 3) := dk_181 0 80 (dk_at dksX5_scanNumber_3 17 rfl rfl)
theorem dX5_scanNumber_90 : decode cX5_scanNumber 90 = .ok (.iinc 2 1, 3) := dk_132 2 1 (dk_at dksX5_scanNumber_3 20 rfl rfl)
theorem dX5_scanNumber_93 : decode cX5_scanNumber 93 = .ok (.aload_n 0, 1) := dk_42 (dk_at dksX5_scanNumber_3 23 rfl rfl)
theorem dX5_scanNumber_94 : decode cX5_scanNumber 94 = .ok (.dup, 1) := dk_89 (dk_at dksX5_scanNumber_4 0 rfl rfl)
theorem dX5_scanNumber_95 : decode cX5_scanNumber 95 = .ok (.getfield 47, 3) := dk_180 0 47 (dk_at dksX5_scanNumber_4 1 rfl rfl)
theorem dX5_scanNumber_98 : decode cX5_scanNumber 98 = .ok (.iconst 1, 1) := dk_4 (dk_at dksX5_scanNumber_4 4 rfl rfl)
theorem dX5_scanNumber_99 : decode cX5_scanNumber 99 = .ok (.iadd, 1) := dk_96 (dk_at dksX5_scanNumber_4 5 rfl rfl)
theorem dX5_scanNumber_100 : decode cX5_scanNumber 100 = .ok (.putfield 47, 3) := dk_181 0 47 (dk_at dksX5_scanNumber_4 6 rfl rfl)
theorem dX5_scanNumber_103 : decode cX5_scanNumber 103 = .ok (.goto (-59), 3) := dk_167 255 197 (dk_at dksX5_scanNumber_4 9 rfl rfl)
theorem dX5_scanNumber_106 : decode cX5_scanNumber 106 = .ok (.aload_n 0, 1) := dk_42 (dk_at dksX5_scanNumber_4 12 rfl rfl)
theorem dX5_scanNumber_107 : decode cX5_scanNumber 107 = .ok (.iload_n 1, 1) := dk_27 (dk_at dksX5_scanNumber_4 13 rfl rfl)
theorem dX5_scanNumber_108 : decode cX5_scanNumber 108 = .ok (.ifCond .eq 11, 3) := dk_153 0 11 (dk_at dksX5_scanNumber_4 14 rfl rfl)
theorem dX5_scanNumber_111 : decode cX5_scanNumber 111 = .ok (.aload_n 0, 1) := dk_42 (dk_at dksX5_scanNumber_4 17 rfl rfl)
theorem dX5_scanNumber_112 : decode cX5_scanNumber 112 = .ok (.getfield 80, 3) := dk_180 0 80 (dk_at dksX5_scanNumber_4 18 rfl rfl)
theorem dX5_scanNumber_115 : decode cX5_scanNumber 115 = .ok (.ineg, 1) := dk_116 (dk_at dksX5_scanNumber_4 21 rfl rfl)
theorem dX5_scanNumber_116 : decode cX5_scanNumber 116 = .ok (.goto 7, 3) := dk_167 0 7 (dk_at dksX5_scanNumber_5 0 rfl rfl)
theorem dX5_scanNumber_119 : decode cX5_scanNumber 119 = .ok (.aload_n 0, 1) := dk_42 (dk_at dksX5_scanNumber_5 3 rfl rfl)
theorem dX5_scanNumber_120 : decode cX5_scanNumber 120 = .ok (.getfield 80, 3) := dk_180 0 80 (dk_at dksX5_scanNumber_5 4 rfl rfl)
theorem dX5_scanNumber_123 : decode cX5_scanNumber 123 = .ok (.putfield 80, 3) := dk_181 0 80 (dk_at dksX5_scanNumber_5 7 rfl rfl)
theorem dX5_scanNumber_126 : decode cX5_scanNumber 126 = .ok (.aload_n 0, 1) := dk_42 (dk_at dksX5_scanNumber_5 10 rfl rfl)
theorem dX5_scanNumber_127 : decode cX5_scanNumber 127 = .ok (.iload_n 2, 1) := dk_28 (dk_at dksX5_scanNumber_5 11 rfl rfl)
theorem dX5_scanNumber_128 : decode cX5_scanNumber 128 = .ok (.iconst 1, 1) := dk_4 (dk_at dksX5_scanNumber_5 12 rfl rfl)
theorem dX5_scanNumber_129 : decode cX5_scanNumber 129 = .ok (.iconst 5, 1) := dk_8 (dk_at dksX5_scanNumber_5 13 rfl rfl)
theorem dX5_scanNumber_130 : decode cX5_scanNumber 130 = .ok (.invokestatic 43, 3) := dk_184 0 43 (dk_at dksX5_scanNumber_5 14 rfl rfl)
theorem dX5_scanNumber_133 : decode cX5_scanNumber 133 = .ok (.ifCond .eq 7, 3) := dk_153 0 7 (dk_at dksX5_scanNumber_5 17 rfl rfl)
theorem dX5_scanNumber_136 : decode cX5_scanNumber 136 = .ok (.iconst 2, 1) := dk_5 (dk_at dksX5_scanNumber_5 20 rfl rfl)
theorem dX5_scanNumber_137 : decode cX5_scanNumber 137 = .ok (.goto 4, 3) := dk_167 0 4 (dk_at dksX5_scanNumber_5 21 rfl rfl)
theorem dX5_scanNumber_140 : decode cX5_scanNumber 140 = .ok (.iconst 4, 1) := dk_7 (dk_at dksX5_scanNumber_6 0 rfl rfl)
theorem dX5_scanNumber_141 : decode cX5_scanNumber 141 = .ok (.putfield 53, 3) := dk_181 0 53 (dk_at dksX5_scanNumber_6 1 rfl rfl)
theorem dX5_scanNumber_144 : decode cX5_scanNumber 144 = .ok (.return_, 1) := dk_177 (dk_at dksX5_scanNumber_6 4 rfl rfl)
abbrev cX5_parts : ByteArray := prog_11_method_14_code
def yX5_parts : MethodName := ⟨RX5, "parts", "()V"⟩
def dkwX5_parts_5 : List UInt8 := [181, 0, 140, 42, 182, 0, 124, 177]
abbrev dktX5_parts_5 : List UInt8 := dkwX5_parts_5 ++ []
def dkwX5_parts_4 : List UInt8 := [16, 100, 17, 19, 136, 182, 0, 114, 181, 0, 137, 42, 180, 0, 25, 42, 16, 101, 17, 3, 232, 182, 0, 114]
abbrev dktX5_parts_4 : List UInt8 := dkwX5_parts_4 ++ dktX5_parts_5
def dkwX5_parts_3 : List UInt8 := [182, 0, 110, 42, 180, 0, 25, 42, 4, 17, 5, 220, 182, 0, 114, 181, 0, 134, 42, 180, 0, 25, 42]
abbrev dktX5_parts_3 : List UInt8 := dkwX5_parts_3 ++ dktX5_parts_4
def dkwX5_parts_2 : List UInt8 := [182, 0, 110, 42, 180, 0, 25, 42, 4, 16, 50, 182, 0, 114, 181, 0, 129, 42, 182, 0, 124, 42, 18, 132]
abbrev dktX5_parts_2 : List UInt8 := dkwX5_parts_2 ++ dktX5_parts_3
def dkwX5_parts_1 : List UInt8 := [180, 0, 25, 42, 16, 20, 17, 1, 244, 182, 0, 114, 181, 0, 121, 42, 182, 0, 124, 42, 18, 127]
abbrev dktX5_parts_1 : List UInt8 := dkwX5_parts_1 ++ dktX5_parts_2
def dkwX5_parts_0 : List UInt8 := [42, 18, 108, 182, 0, 110, 42, 180, 0, 25, 42, 16, 10, 17, 1, 244, 182, 0, 114, 181, 0, 118, 42]
abbrev dktX5_parts_0 : List UInt8 := dkwX5_parts_0 ++ dktX5_parts_1
theorem dksX5_parts_0 : cX5_parts.data.toList.drop 0 = dktX5_parts_0 := by decide +kernel
theorem dksX5_parts_1 : cX5_parts.data.toList.drop 23 = dktX5_parts_1 := dk_seg dksX5_parts_0 23 rfl rfl
theorem dksX5_parts_2 : cX5_parts.data.toList.drop 45 = dktX5_parts_2 := dk_seg dksX5_parts_1 22 rfl rfl
theorem dksX5_parts_3 : cX5_parts.data.toList.drop 69 = dktX5_parts_3 := dk_seg dksX5_parts_2 24 rfl rfl
theorem dksX5_parts_4 : cX5_parts.data.toList.drop 92 = dktX5_parts_4 := dk_seg dksX5_parts_3 23 rfl rfl
theorem dksX5_parts_5 : cX5_parts.data.toList.drop 116 = dktX5_parts_5 := dk_seg dksX5_parts_4 24 rfl rfl
theorem dX5_parts_0 : decode cX5_parts 0 = .ok (.aload_n 0, 1) := dk_42 (dk_at dksX5_parts_0 0 rfl rfl)
theorem dX5_parts_1 : decode cX5_parts 1 = .ok (.ldc 108, 2) := dk_18 108 (dk_at dksX5_parts_0 1 rfl rfl)
theorem dX5_parts_3 : decode cX5_parts 3 = .ok (.invokevirtual 110, 3) := dk_182 0 110 (dk_at dksX5_parts_0 3 rfl rfl)
theorem dX5_parts_6 : decode cX5_parts 6 = .ok (.aload_n 0, 1) := dk_42 (dk_at dksX5_parts_0 6 rfl rfl)
theorem dX5_parts_7 : decode cX5_parts 7 = .ok (.getfield 25, 3) := dk_180 0 25 (dk_at dksX5_parts_0 7 rfl rfl)
theorem dX5_parts_10 : decode cX5_parts 10 = .ok (.aload_n 0, 1) := dk_42 (dk_at dksX5_parts_0 10 rfl rfl)
theorem dX5_parts_11 : decode cX5_parts 11 = .ok (.bipush 10, 2) := dk_16 10 (dk_at dksX5_parts_0 11 rfl rfl)
theorem dX5_parts_13 : decode cX5_parts 13 = .ok (.sipush 500, 3) := dk_17 1 244 (dk_at dksX5_parts_0 13 rfl rfl)
theorem dX5_parts_16 : decode cX5_parts 16 = .ok (.invokevirtual 114, 3) := dk_182 0 114 (dk_at dksX5_parts_0 16 rfl rfl)
theorem dX5_parts_19 : decode cX5_parts 19 = .ok (.putfield 118, 3) := dk_181 0 118 (dk_at dksX5_parts_0 19 rfl rfl)
theorem dX5_parts_22 : decode cX5_parts 22 = .ok (.aload_n 0, 1) := dk_42 (dk_at dksX5_parts_0 22 rfl rfl)
theorem dX5_parts_23 : decode cX5_parts 23 = .ok (.getfield 25, 3) := dk_180 0 25 (dk_at dksX5_parts_1 0 rfl rfl)
theorem dX5_parts_26 : decode cX5_parts 26 = .ok (.aload_n 0, 1) := dk_42 (dk_at dksX5_parts_1 3 rfl rfl)
theorem dX5_parts_27 : decode cX5_parts 27 = .ok (.bipush 20, 2) := dk_16 20 (dk_at dksX5_parts_1 4 rfl rfl)
theorem dX5_parts_29 : decode cX5_parts 29 = .ok (.sipush 500, 3) := dk_17 1 244 (dk_at dksX5_parts_1 6 rfl rfl)
theorem dX5_parts_32 : decode cX5_parts 32 = .ok (.invokevirtual 114, 3) := dk_182 0 114 (dk_at dksX5_parts_1 9 rfl rfl)
theorem dX5_parts_35 : decode cX5_parts 35 = .ok (.putfield 121, 3) := dk_181 0 121 (dk_at dksX5_parts_1 12 rfl rfl)
theorem dX5_parts_38 : decode cX5_parts 38 = .ok (.aload_n 0, 1) := dk_42 (dk_at dksX5_parts_1 15 rfl rfl)
theorem dX5_parts_39 : decode cX5_parts 39 = .ok (.invokevirtual 124, 3) := dk_182 0 124 (dk_at dksX5_parts_1 16 rfl rfl)
theorem dX5_parts_42 : decode cX5_parts 42 = .ok (.aload_n 0, 1) := dk_42 (dk_at dksX5_parts_1 19 rfl rfl)
theorem dX5_parts_43 : decode cX5_parts 43 = .ok (.ldc 127, 2) := dk_18 127 (dk_at dksX5_parts_1 20 rfl rfl)
theorem dX5_parts_45 : decode cX5_parts 45 = .ok (.invokevirtual 110, 3) := dk_182 0 110 (dk_at dksX5_parts_2 0 rfl rfl)
theorem dX5_parts_48 : decode cX5_parts 48 = .ok (.aload_n 0, 1) := dk_42 (dk_at dksX5_parts_2 3 rfl rfl)
theorem dX5_parts_49 : decode cX5_parts 49 = .ok (.getfield 25, 3) := dk_180 0 25 (dk_at dksX5_parts_2 4 rfl rfl)
theorem dX5_parts_52 : decode cX5_parts 52 = .ok (.aload_n 0, 1) := dk_42 (dk_at dksX5_parts_2 7 rfl rfl)
theorem dX5_parts_53 : decode cX5_parts 53 = .ok (.iconst 1, 1) := dk_4 (dk_at dksX5_parts_2 8 rfl rfl)
theorem dX5_parts_54 : decode cX5_parts 54 = .ok (.bipush 50, 2) := dk_16 50 (dk_at dksX5_parts_2 9 rfl rfl)
theorem dX5_parts_56 : decode cX5_parts 56 = .ok (.invokevirtual 114, 3) := dk_182 0 114 (dk_at dksX5_parts_2 11 rfl rfl)
theorem dX5_parts_59 : decode cX5_parts 59 = .ok (.putfield 129, 3) := dk_181 0 129 (dk_at dksX5_parts_2 14 rfl rfl)
theorem dX5_parts_62 : decode cX5_parts 62 = .ok (.aload_n 0, 1) := dk_42 (dk_at dksX5_parts_2 17 rfl rfl)
theorem dX5_parts_63 : decode cX5_parts 63 = .ok (.invokevirtual 124, 3) := dk_182 0 124 (dk_at dksX5_parts_2 18 rfl rfl)
theorem dX5_parts_66 : decode cX5_parts 66 = .ok (.aload_n 0, 1) := dk_42 (dk_at dksX5_parts_2 21 rfl rfl)
theorem dX5_parts_67 : decode cX5_parts 67 = .ok (.ldc 132, 2) := dk_18 132 (dk_at dksX5_parts_2 22 rfl rfl)
theorem dX5_parts_69 : decode cX5_parts 69 = .ok (.invokevirtual 110, 3) := dk_182 0 110 (dk_at dksX5_parts_3 0 rfl rfl)
theorem dX5_parts_72 : decode cX5_parts 72 = .ok (.aload_n 0, 1) := dk_42 (dk_at dksX5_parts_3 3 rfl rfl)
theorem dX5_parts_73 : decode cX5_parts 73 = .ok (.getfield 25, 3) := dk_180 0 25 (dk_at dksX5_parts_3 4 rfl rfl)
theorem dX5_parts_76 : decode cX5_parts 76 = .ok (.aload_n 0, 1) := dk_42 (dk_at dksX5_parts_3 7 rfl rfl)
theorem dX5_parts_77 : decode cX5_parts 77 = .ok (.iconst 1, 1) := dk_4 (dk_at dksX5_parts_3 8 rfl rfl)
theorem dX5_parts_78 : decode cX5_parts 78 = .ok (.sipush 1500, 3) := dk_17 5 220 (dk_at dksX5_parts_3 9 rfl rfl)
theorem dX5_parts_81 : decode cX5_parts 81 = .ok (.invokevirtual 114, 3) := dk_182 0 114 (dk_at dksX5_parts_3 12 rfl rfl)
theorem dX5_parts_84 : decode cX5_parts 84 = .ok (.putfield 134, 3) := dk_181 0 134 (dk_at dksX5_parts_3 15 rfl rfl)
theorem dX5_parts_87 : decode cX5_parts 87 = .ok (.aload_n 0, 1) := dk_42 (dk_at dksX5_parts_3 18 rfl rfl)
theorem dX5_parts_88 : decode cX5_parts 88 = .ok (.getfield 25, 3) := dk_180 0 25 (dk_at dksX5_parts_3 19 rfl rfl)
theorem dX5_parts_91 : decode cX5_parts 91 = .ok (.aload_n 0, 1) := dk_42 (dk_at dksX5_parts_3 22 rfl rfl)
theorem dX5_parts_92 : decode cX5_parts 92 = .ok (.bipush 100, 2) := dk_16 100 (dk_at dksX5_parts_4 0 rfl rfl)
theorem dX5_parts_94 : decode cX5_parts 94 = .ok (.sipush 5000, 3) := dk_17 19 136 (dk_at dksX5_parts_4 2 rfl rfl)
theorem dX5_parts_97 : decode cX5_parts 97 = .ok (.invokevirtual 114, 3) := dk_182 0 114 (dk_at dksX5_parts_4 5 rfl rfl)
theorem dX5_parts_100 : decode cX5_parts 100 = .ok (.putfield 137, 3) := dk_181 0 137 (dk_at dksX5_parts_4 8 rfl rfl)
theorem dX5_parts_103 : decode cX5_parts 103 = .ok (.aload_n 0, 1) := dk_42 (dk_at dksX5_parts_4 11 rfl rfl)
theorem dX5_parts_104 : decode cX5_parts 104 = .ok (.getfield 25, 3) := dk_180 0 25 (dk_at dksX5_parts_4 12 rfl rfl)
theorem dX5_parts_107 : decode cX5_parts 107 = .ok (.aload_n 0, 1) := dk_42 (dk_at dksX5_parts_4 15 rfl rfl)
theorem dX5_parts_108 : decode cX5_parts 108 = .ok (.bipush 101, 2) := dk_16 101 (dk_at dksX5_parts_4 16 rfl rfl)
theorem dX5_parts_110 : decode cX5_parts 110 = .ok (.sipush 1000, 3) := dk_17 3 232 (dk_at dksX5_parts_4 18 rfl rfl)
theorem dX5_parts_113 : decode cX5_parts 113 = .ok (.invokevirtual 114, 3) := dk_182 0 114 (dk_at dksX5_parts_4 21 rfl rfl)
theorem dX5_parts_116 : decode cX5_parts 116 = .ok (.putfield 140, 3) := dk_181 0 140 (dk_at dksX5_parts_5 0 rfl rfl)
theorem dX5_parts_119 : decode cX5_parts 119 = .ok (.aload_n 0, 1) := dk_42 (dk_at dksX5_parts_5 3 rfl rfl)
theorem dX5_parts_120 : decode cX5_parts 120 = .ok (.invokevirtual 124, 3) := dk_182 0 124 (dk_at dksX5_parts_5 4 rfl rfl)
theorem dX5_parts_123 : decode cX5_parts 123 = .ok (.return_, 1) := dk_177 (dk_at dksX5_parts_5 7 rfl rfl)
abbrev cX5_expect : ByteArray := prog_11_method_10_code
def yX5_expect : MethodName := ⟨RX5, "expect", "(Ljava/lang/String;)V"⟩
def dkwX5_expect_0 : List UInt8 := [42, 42, 43, 182, 0, 94, 4, 182, 0, 98, 42, 182, 0, 102, 177]
abbrev dktX5_expect_0 : List UInt8 := dkwX5_expect_0 ++ []
theorem dksX5_expect_0 : cX5_expect.data.toList.drop 0 = dktX5_expect_0 := by decide +kernel
theorem dX5_expect_0 : decode cX5_expect 0 = .ok (.aload_n 0, 1) := dk_42 (dk_at dksX5_expect_0 0 rfl rfl)
theorem dX5_expect_1 : decode cX5_expect 1 = .ok (.aload_n 0, 1) := dk_42 (dk_at dksX5_expect_0 1 rfl rfl)
theorem dX5_expect_2 : decode cX5_expect 2 = .ok (.aload_n 1, 1) := dk_43 (dk_at dksX5_expect_0 2 rfl rfl)
theorem dX5_expect_3 : decode cX5_expect 3 = .ok (.invokevirtual 94, 3) := dk_182 0 94 (dk_at dksX5_expect_0 3 rfl rfl)
theorem dX5_expect_6 : decode cX5_expect 6 = .ok (.iconst 1, 1) := dk_4 (dk_at dksX5_expect_0 6 rfl rfl)
theorem dX5_expect_7 : decode cX5_expect 7 = .ok (.invokevirtual 98, 3) := dk_182 0 98 (dk_at dksX5_expect_0 7 rfl rfl)
theorem dX5_expect_10 : decode cX5_expect 10 = .ok (.aload_n 0, 1) := dk_42 (dk_at dksX5_expect_0 10 rfl rfl)
theorem dX5_expect_11 : decode cX5_expect 11 = .ok (.invokevirtual 102, 3) := dk_182 0 102 (dk_at dksX5_expect_0 11 rfl rfl)
theorem dX5_expect_14 : decode cX5_expect 14 = .ok (.return_, 1) := dk_177 (dk_at dksX5_expect_0 14 rfl rfl)
abbrev cX5_isKeyword : ByteArray := prog_11_method_9_code
def yX5_isKeyword : MethodName := ⟨RX5, "isKeyword", "(Ljava/lang/String;)Z"⟩
def dkwX5_isKeyword_1 : List UInt8 := [172]
abbrev dktX5_isKeyword_1 : List UInt8 := dkwX5_isKeyword_1 ++ []
def dkwX5_isKeyword_0 : List UInt8 := [42, 180, 0, 53, 4, 160, 0, 18, 42, 180, 0, 31, 43, 182, 0, 88, 153, 0, 7, 4, 167, 0, 4, 3]
abbrev dktX5_isKeyword_0 : List UInt8 := dkwX5_isKeyword_0 ++ dktX5_isKeyword_1
theorem dksX5_isKeyword_0 : cX5_isKeyword.data.toList.drop 0 = dktX5_isKeyword_0 := by decide +kernel
theorem dksX5_isKeyword_1 : cX5_isKeyword.data.toList.drop 24 = dktX5_isKeyword_1 := dk_seg dksX5_isKeyword_0 24 rfl rfl
theorem dX5_isKeyword_0 : decode cX5_isKeyword 0 = .ok (.aload_n 0, 1) := dk_42 (dk_at dksX5_isKeyword_0 0 rfl rfl)
theorem dX5_isKeyword_1 : decode cX5_isKeyword 1 = .ok (.getfield 53, 3) := dk_180 0 53 (dk_at dksX5_isKeyword_0 1 rfl rfl)
theorem dX5_isKeyword_4 : decode cX5_isKeyword 4 = .ok (.iconst 1, 1) := dk_4 (dk_at dksX5_isKeyword_0 4 rfl rfl)
theorem dX5_isKeyword_5 : decode cX5_isKeyword 5 = .ok (.if_icmp .ne 18, 3) := dk_160 0 18 (dk_at dksX5_isKeyword_0 5 rfl rfl)
theorem dX5_isKeyword_8 : decode cX5_isKeyword 8 = .ok (.aload_n 0, 1) := dk_42 (dk_at dksX5_isKeyword_0 8 rfl rfl)
theorem dX5_isKeyword_9 : decode cX5_isKeyword 9 = .ok (.getfield 31, 3) := dk_180 0 31 (dk_at dksX5_isKeyword_0 9 rfl rfl)
theorem dX5_isKeyword_12 : decode cX5_isKeyword 12 = .ok (.aload_n 1, 1) := dk_43 (dk_at dksX5_isKeyword_0 12 rfl rfl)
theorem dX5_isKeyword_13 : decode cX5_isKeyword 13 = .ok (.invokevirtual 88, 3) := dk_182 0 88 (dk_at dksX5_isKeyword_0 13 rfl rfl)
theorem dX5_isKeyword_16 : decode cX5_isKeyword 16 = .ok (.ifCond .eq 7, 3) := dk_153 0 7 (dk_at dksX5_isKeyword_0 16 rfl rfl)
theorem dX5_isKeyword_19 : decode cX5_isKeyword 19 = .ok (.iconst 1, 1) := dk_4 (dk_at dksX5_isKeyword_0 19 rfl rfl)
theorem dX5_isKeyword_20 : decode cX5_isKeyword 20 = .ok (.goto 4, 3) := dk_167 0 4 (dk_at dksX5_isKeyword_0 20 rfl rfl)
theorem dX5_isKeyword_23 : decode cX5_isKeyword 23 = .ok (.iconst 0, 1) := dk_3 (dk_at dksX5_isKeyword_0 23 rfl rfl)
theorem dX5_isKeyword_24 : decode cX5_isKeyword 24 = .ok (.ireturn, 1) := dk_172 (dk_at dksX5_isKeyword_1 0 rfl rfl)
abbrev cX5_require : ByteArray := prog_11_method_8_code
def yX5_require : MethodName := ⟨RX5, "require", "(ZI)V"⟩
def dkwX5_require_0 : List UInt8 := [27, 154, 0, 16, 187, 0, 83, 89, 28, 42, 180, 0, 50, 183, 0, 85, 191, 177]
abbrev dktX5_require_0 : List UInt8 := dkwX5_require_0 ++ []
theorem dksX5_require_0 : cX5_require.data.toList.drop 0 = dktX5_require_0 := by decide +kernel
theorem dX5_require_0 : decode cX5_require 0 = .ok (.iload_n 1, 1) := dk_27 (dk_at dksX5_require_0 0 rfl rfl)
theorem dX5_require_1 : decode cX5_require 1 = .ok (.ifCond .ne 16, 3) := dk_154 0 16 (dk_at dksX5_require_0 1 rfl rfl)
theorem dX5_require_4 : decode cX5_require 4 = .ok (.new 83, 3) := dk_187 0 83 (dk_at dksX5_require_0 4 rfl rfl)
theorem dX5_require_7 : decode cX5_require 7 = .ok (.dup, 1) := dk_89 (dk_at dksX5_require_0 7 rfl rfl)
theorem dX5_require_8 : decode cX5_require 8 = .ok (.iload_n 2, 1) := dk_28 (dk_at dksX5_require_0 8 rfl rfl)
theorem dX5_require_9 : decode cX5_require 9 = .ok (.aload_n 0, 1) := dk_42 (dk_at dksX5_require_0 9 rfl rfl)
theorem dX5_require_10 : decode cX5_require 10 = .ok (.getfield 50, 3) := dk_180 0 50 (dk_at dksX5_require_0 10 rfl rfl)
theorem dX5_require_13 : decode cX5_require 13 = .ok (.invokespecial 85, 3) := dk_183 0 85 (dk_at dksX5_require_0 13 rfl rfl)
theorem dX5_require_16 : decode cX5_require 16 = .ok (.athrow, 1) := dk_191 (dk_at dksX5_require_0 16 rfl rfl)
theorem dX5_require_17 : decode cX5_require 17 = .ok (.return_, 1) := dk_177 (dk_at dksX5_require_0 17 rfl rfl)
abbrev cX5_number : ByteArray := prog_11_method_13_code
def yX5_number : MethodName := ⟨RX5, "number", "(II)I"⟩
def dkwX5_number_0 : List UInt8 := [42, 27, 28, 182, 0, 105, 42, 180, 0, 80, 62, 42, 182, 0, 102, 29, 172]
abbrev dktX5_number_0 : List UInt8 := dkwX5_number_0 ++ []
theorem dksX5_number_0 : cX5_number.data.toList.drop 0 = dktX5_number_0 := by decide +kernel
theorem dX5_number_0 : decode cX5_number 0 = .ok (.aload_n 0, 1) := dk_42 (dk_at dksX5_number_0 0 rfl rfl)
theorem dX5_number_1 : decode cX5_number 1 = .ok (.iload_n 1, 1) := dk_27 (dk_at dksX5_number_0 1 rfl rfl)
theorem dX5_number_2 : decode cX5_number 2 = .ok (.iload_n 2, 1) := dk_28 (dk_at dksX5_number_0 2 rfl rfl)
theorem dX5_number_3 : decode cX5_number 3 = .ok (.invokevirtual 105, 3) := dk_182 0 105 (dk_at dksX5_number_0 3 rfl rfl)
theorem dX5_number_6 : decode cX5_number 6 = .ok (.aload_n 0, 1) := dk_42 (dk_at dksX5_number_0 6 rfl rfl)
theorem dX5_number_7 : decode cX5_number 7 = .ok (.getfield 80, 3) := dk_180 0 80 (dk_at dksX5_number_0 7 rfl rfl)
theorem dX5_number_10 : decode cX5_number 10 = .ok (.istore_n 3, 1) := dk_62 (dk_at dksX5_number_0 10 rfl rfl)
theorem dX5_number_11 : decode cX5_number 11 = .ok (.aload_n 0, 1) := dk_42 (dk_at dksX5_number_0 11 rfl rfl)
theorem dX5_number_12 : decode cX5_number 12 = .ok (.invokevirtual 102, 3) := dk_182 0 102 (dk_at dksX5_number_0 12 rfl rfl)
theorem dX5_number_15 : decode cX5_number 15 = .ok (.iload_n 3, 1) := dk_29 (dk_at dksX5_number_0 15 rfl rfl)
theorem dX5_number_16 : decode cX5_number 16 = .ok (.ireturn, 1) := dk_172 (dk_at dksX5_number_0 16 rfl rfl)
abbrev cX5_requireNumber : ByteArray := prog_11_method_12_code
def yX5_requireNumber : MethodName := ⟨RX5, "requireNumber", "(II)V"⟩
def dkwX5_requireNumber_1 : List UInt8 := [28, 184, 0, 43, 5, 182, 0, 98, 177]
abbrev dktX5_requireNumber_1 : List UInt8 := dkwX5_requireNumber_1 ++ []
def dkwX5_requireNumber_0 : List UInt8 := [42, 42, 180, 0, 53, 5, 160, 0, 7, 4, 167, 0, 4, 3, 4, 182, 0, 98, 42, 42, 180, 0, 80, 27]
abbrev dktX5_requireNumber_0 : List UInt8 := dkwX5_requireNumber_0 ++ dktX5_requireNumber_1
theorem dksX5_requireNumber_0 : cX5_requireNumber.data.toList.drop 0 = dktX5_requireNumber_0 := by decide +kernel
theorem dksX5_requireNumber_1 : cX5_requireNumber.data.toList.drop 24 = dktX5_requireNumber_1 := dk_seg dksX5_requireNumber_0 24 rfl rfl
theorem dX5_requireNumber_0 : decode cX5_requireNumber 0 = .ok (.aload_n 0, 1) := dk_42 (dk_at dksX5_requireNumber_0 0 rfl rfl)
theorem dX5_requireNumber_1 : decode cX5_requireNumber 1 = .ok (.aload_n 0, 1) := dk_42 (dk_at dksX5_requireNumber_0 1 rfl rfl)
theorem dX5_requireNumber_2 : decode cX5_requireNumber 2 = .ok (.getfield 53, 3) := dk_180 0 53 (dk_at dksX5_requireNumber_0 2 rfl rfl)
theorem dX5_requireNumber_5 : decode cX5_requireNumber 5 = .ok (.iconst 2, 1) := dk_5 (dk_at dksX5_requireNumber_0 5 rfl rfl)
theorem dX5_requireNumber_6 : decode cX5_requireNumber 6 = .ok (.if_icmp .ne 7, 3) := dk_160 0 7 (dk_at dksX5_requireNumber_0 6 rfl rfl)
theorem dX5_requireNumber_9 : decode cX5_requireNumber 9 = .ok (.iconst 1, 1) := dk_4 (dk_at dksX5_requireNumber_0 9 rfl rfl)
theorem dX5_requireNumber_10 : decode cX5_requireNumber 10 = .ok (.goto 4, 3) := dk_167 0 4 (dk_at dksX5_requireNumber_0 10 rfl rfl)
theorem dX5_requireNumber_13 : decode cX5_requireNumber 13 = .ok (.iconst 0, 1) := dk_3 (dk_at dksX5_requireNumber_0 13 rfl rfl)
theorem dX5_requireNumber_14 : decode cX5_requireNumber 14 = .ok (.iconst 1, 1) := dk_4 (dk_at dksX5_requireNumber_0 14 rfl rfl)
theorem dX5_requireNumber_15 : decode cX5_requireNumber 15 = .ok (.invokevirtual 98, 3) := dk_182 0 98 (dk_at dksX5_requireNumber_0 15 rfl rfl)
theorem dX5_requireNumber_18 : decode cX5_requireNumber 18 = .ok (.aload_n 0, 1) := dk_42 (dk_at dksX5_requireNumber_0 18 rfl rfl)
theorem dX5_requireNumber_19 : decode cX5_requireNumber 19 = .ok (.aload_n 0, 1) := dk_42 (dk_at dksX5_requireNumber_0 19 rfl rfl)
theorem dX5_requireNumber_20 : decode cX5_requireNumber 20 = .ok (.getfield 80, 3) := dk_180 0 80 (dk_at dksX5_requireNumber_0 20 rfl rfl)
theorem dX5_requireNumber_23 : decode cX5_requireNumber 23 = .ok (.iload_n 1, 1) := dk_27 (dk_at dksX5_requireNumber_0 23 rfl rfl)
theorem dX5_requireNumber_24 : decode cX5_requireNumber 24 = .ok (.iload_n 2, 1) := dk_28 (dk_at dksX5_requireNumber_1 0 rfl rfl)
theorem dX5_requireNumber_25 : decode cX5_requireNumber 25 = .ok (.invokestatic 43, 3) := dk_184 0 43 (dk_at dksX5_requireNumber_1 1 rfl rfl)
theorem dX5_requireNumber_28 : decode cX5_requireNumber 28 = .ok (.iconst 2, 1) := dk_5 (dk_at dksX5_requireNumber_1 4 rfl rfl)
theorem dX5_requireNumber_29 : decode cX5_requireNumber 29 = .ok (.invokevirtual 98, 3) := dk_182 0 98 (dk_at dksX5_requireNumber_1 5 rfl rfl)
theorem dX5_requireNumber_32 : decode cX5_requireNumber 32 = .ok (.return_, 1) := dk_177 (dk_at dksX5_requireNumber_1 8 rfl rfl)
abbrev cX5_endStatement : ByteArray := prog_11_method_11_code
def yX5_endStatement : MethodName := ⟨RX5, "endStatement", "()V"⟩
def dkwX5_endStatement_0 : List UInt8 := [42, 42, 180, 0, 53, 6, 160, 0, 7, 4, 167, 0, 4, 3, 4, 182, 0, 98, 42, 182, 0, 102, 177]
abbrev dktX5_endStatement_0 : List UInt8 := dkwX5_endStatement_0 ++ []
theorem dksX5_endStatement_0 : cX5_endStatement.data.toList.drop 0 = dktX5_endStatement_0 := by decide +kernel
theorem dX5_endStatement_0 : decode cX5_endStatement 0 = .ok (.aload_n 0, 1) := dk_42 (dk_at dksX5_endStatement_0 0 rfl rfl)
theorem dX5_endStatement_1 : decode cX5_endStatement 1 = .ok (.aload_n 0, 1) := dk_42 (dk_at dksX5_endStatement_0 1 rfl rfl)
theorem dX5_endStatement_2 : decode cX5_endStatement 2 = .ok (.getfield 53, 3) := dk_180 0 53 (dk_at dksX5_endStatement_0 2 rfl rfl)
theorem dX5_endStatement_5 : decode cX5_endStatement 5 = .ok (.iconst 3, 1) := dk_6 (dk_at dksX5_endStatement_0 5 rfl rfl)
theorem dX5_endStatement_6 : decode cX5_endStatement 6 = .ok (.if_icmp .ne 7, 3) := dk_160 0 7 (dk_at dksX5_endStatement_0 6 rfl rfl)
theorem dX5_endStatement_9 : decode cX5_endStatement 9 = .ok (.iconst 1, 1) := dk_4 (dk_at dksX5_endStatement_0 9 rfl rfl)
theorem dX5_endStatement_10 : decode cX5_endStatement 10 = .ok (.goto 4, 3) := dk_167 0 4 (dk_at dksX5_endStatement_0 10 rfl rfl)
theorem dX5_endStatement_13 : decode cX5_endStatement 13 = .ok (.iconst 0, 1) := dk_3 (dk_at dksX5_endStatement_0 13 rfl rfl)
theorem dX5_endStatement_14 : decode cX5_endStatement 14 = .ok (.iconst 1, 1) := dk_4 (dk_at dksX5_endStatement_0 14 rfl rfl)
theorem dX5_endStatement_15 : decode cX5_endStatement 15 = .ok (.invokevirtual 98, 3) := dk_182 0 98 (dk_at dksX5_endStatement_0 15 rfl rfl)
theorem dX5_endStatement_18 : decode cX5_endStatement 18 = .ok (.aload_n 0, 1) := dk_42 (dk_at dksX5_endStatement_0 18 rfl rfl)
theorem dX5_endStatement_19 : decode cX5_endStatement 19 = .ok (.invokevirtual 102, 3) := dk_182 0 102 (dk_at dksX5_endStatement_0 19 rfl rfl)
theorem dX5_endStatement_22 : decode cX5_endStatement 22 = .ok (.return_, 1) := dk_177 (dk_at dksX5_endStatement_0 22 rfl rfl)
abbrev cX5_point : ByteArray := prog_11_method_15_code
def yX5_point : MethodName := ⟨RX5, "point", "()V"⟩
def dkwX5_point_8 : List UInt8 := [182, 0, 124, 177]
abbrev dktX5_point_8 : List UInt8 := dkwX5_point_8 ++ []
def dkwX5_point_7 : List UInt8 := [17, 11, 184, 182, 0, 114, 133, 105, 80, 42, 180, 0, 25, 89, 180, 0, 145, 4, 96, 181, 0, 145, 42]
abbrev dktX5_point_7 : List UInt8 := dkwX5_point_7 ++ dktX5_point_8
def dkwX5_point_6 : List UInt8 := [133, 105, 80, 42, 180, 0, 25, 180, 0, 158, 42, 180, 0, 25, 180, 0, 145, 20, 0, 156, 42, 17, 244, 72]
abbrev dktX5_point_6 : List UInt8 := dkwX5_point_6 ++ dktX5_point_7
def dkwX5_point_5 : List UInt8 := [180, 0, 25, 180, 0, 152, 42, 180, 0, 25, 180, 0, 145, 20, 0, 156, 42, 4, 17, 11, 184, 182, 0, 114]
abbrev dktX5_point_5 : List UInt8 := dkwX5_point_5 ++ dktX5_point_6
def dkwX5_point_4 : List UInt8 := [180, 0, 25, 180, 0, 148, 42, 180, 0, 25, 180, 0, 145, 42, 180, 0, 80, 79, 42, 182, 0, 102, 42]
abbrev dktX5_point_4 : List UInt8 := dkwX5_point_4 ++ dktX5_point_5
def dkwX5_point_3 : List UInt8 := [180, 0, 25, 180, 0, 145, 4, 100, 46, 164, 0, 7, 4, 167, 0, 4, 3, 6, 182, 0, 98, 42]
abbrev dktX5_point_3 : List UInt8 := dkwX5_point_3 ++ dktX5_point_4
def dkwX5_point_2 : List UInt8 := [42, 180, 0, 25, 180, 0, 145, 153, 0, 27, 42, 180, 0, 80, 42, 180, 0, 25, 180, 0, 148, 42]
abbrev dktX5_point_2 : List UInt8 := dkwX5_point_2 ++ dktX5_point_3
def dkwX5_point_1 : List UInt8 := [4, 167, 0, 4, 3, 7, 182, 0, 98, 42, 182, 0, 102, 42, 17, 5, 220, 17, 117, 48, 182, 0, 105, 42]
abbrev dktX5_point_1 : List UInt8 := dkwX5_point_1 ++ dktX5_point_2
def dkwX5_point_0 : List UInt8 := [42, 42, 18, 143, 182, 0, 94, 4, 182, 0, 98, 42, 42, 180, 0, 25, 180, 0, 145, 16, 16, 162, 0, 7]
abbrev dktX5_point_0 : List UInt8 := dkwX5_point_0 ++ dktX5_point_1
theorem dksX5_point_0 : cX5_point.data.toList.drop 0 = dktX5_point_0 := by decide +kernel
theorem dksX5_point_1 : cX5_point.data.toList.drop 24 = dktX5_point_1 := dk_seg dksX5_point_0 24 rfl rfl
theorem dksX5_point_2 : cX5_point.data.toList.drop 48 = dktX5_point_2 := dk_seg dksX5_point_1 24 rfl rfl
theorem dksX5_point_3 : cX5_point.data.toList.drop 70 = dktX5_point_3 := dk_seg dksX5_point_2 22 rfl rfl
theorem dksX5_point_4 : cX5_point.data.toList.drop 92 = dktX5_point_4 := dk_seg dksX5_point_3 22 rfl rfl
theorem dksX5_point_5 : cX5_point.data.toList.drop 115 = dktX5_point_5 := dk_seg dksX5_point_4 23 rfl rfl
theorem dksX5_point_6 : cX5_point.data.toList.drop 139 = dktX5_point_6 := dk_seg dksX5_point_5 24 rfl rfl
theorem dksX5_point_7 : cX5_point.data.toList.drop 163 = dktX5_point_7 := dk_seg dksX5_point_6 24 rfl rfl
theorem dksX5_point_8 : cX5_point.data.toList.drop 186 = dktX5_point_8 := dk_seg dksX5_point_7 23 rfl rfl
theorem dX5_point_0 : decode cX5_point 0 = .ok (.aload_n 0, 1) := dk_42 (dk_at dksX5_point_0 0 rfl rfl)
theorem dX5_point_1 : decode cX5_point 1 = .ok (.aload_n 0, 1) := dk_42 (dk_at dksX5_point_0 1 rfl rfl)
theorem dX5_point_2 : decode cX5_point 2 = .ok (.ldc 143, 2) := dk_18 143 (dk_at dksX5_point_0 2 rfl rfl)
theorem dX5_point_4 : decode cX5_point 4 = .ok (.invokevirtual 94, 3) := dk_182 0 94 (dk_at dksX5_point_0 4 rfl rfl)
theorem dX5_point_7 : decode cX5_point 7 = .ok (.iconst 1, 1) := dk_4 (dk_at dksX5_point_0 7 rfl rfl)
theorem dX5_point_8 : decode cX5_point 8 = .ok (.invokevirtual 98, 3) := dk_182 0 98 (dk_at dksX5_point_0 8 rfl rfl)
theorem dX5_point_11 : decode cX5_point 11 = .ok (.aload_n 0, 1) := dk_42 (dk_at dksX5_point_0 11 rfl rfl)
theorem dX5_point_12 : decode cX5_point 12 = .ok (.aload_n 0, 1) := dk_42 (dk_at dksX5_point_0 12 rfl rfl)
theorem dX5_point_13 : decode cX5_point 13 = .ok (.getfield 25, 3) := dk_180 0 25 (dk_at dksX5_point_0 13 rfl rfl)
theorem dX5_point_16 : decode cX5_point 16 = .ok (.getfield 145, 3) := dk_180 0 145 (dk_at dksX5_point_0 16 rfl rfl)
theorem dX5_point_19 : decode cX5_point 19 = .ok (.bipush 16, 2) := dk_16 16 (dk_at dksX5_point_0 19 rfl rfl)
theorem dX5_point_21 : decode cX5_point 21 = .ok (.if_icmp .ge 7, 3) := dk_162 0 7 (dk_at dksX5_point_0 21 rfl rfl)
theorem dX5_point_24 : decode cX5_point 24 = .ok (.iconst 1, 1) := dk_4 (dk_at dksX5_point_1 0 rfl rfl)
theorem dX5_point_25 : decode cX5_point 25 = .ok (.goto 4, 3) := dk_167 0 4 (dk_at dksX5_point_1 1 rfl rfl)
theorem dX5_point_28 : decode cX5_point 28 = .ok (.iconst 0, 1) := dk_3 (dk_at dksX5_point_1 4 rfl rfl)
theorem dX5_point_29 : decode cX5_point 29 = .ok (.iconst 4, 1) := dk_7 (dk_at dksX5_point_1 5 rfl rfl)
theorem dX5_point_30 : decode cX5_point 30 = .ok (.invokevirtual 98, 3) := dk_182 0 98 (dk_at dksX5_point_1 6 rfl rfl)
theorem dX5_point_33 : decode cX5_point 33 = .ok (.aload_n 0, 1) := dk_42 (dk_at dksX5_point_1 9 rfl rfl)
theorem dX5_point_34 : decode cX5_point 34 = .ok (.invokevirtual 102, 3) := dk_182 0 102 (dk_at dksX5_point_1 10 rfl rfl)
theorem dX5_point_37 : decode cX5_point 37 = .ok (.aload_n 0, 1) := dk_42 (dk_at dksX5_point_1 13 rfl rfl)
theorem dX5_point_38 : decode cX5_point 38 = .ok (.sipush 1500, 3) := dk_17 5 220 (dk_at dksX5_point_1 14 rfl rfl)
theorem dX5_point_41 : decode cX5_point 41 = .ok (.sipush 30000, 3) := dk_17 117 48 (dk_at dksX5_point_1 17 rfl rfl)
theorem dX5_point_44 : decode cX5_point 44 = .ok (.invokevirtual 105, 3) := dk_182 0 105 (dk_at dksX5_point_1 20 rfl rfl)
theorem dX5_point_47 : decode cX5_point 47 = .ok (.aload_n 0, 1) := dk_42 (dk_at dksX5_point_1 23 rfl rfl)
theorem dX5_point_48 : decode cX5_point 48 = .ok (.aload_n 0, 1) := dk_42 (dk_at dksX5_point_2 0 rfl rfl)
theorem dX5_point_49 : decode cX5_point 49 = .ok (.getfield 25, 3) := dk_180 0 25 (dk_at dksX5_point_2 1 rfl rfl)
theorem dX5_point_52 : decode cX5_point 52 = .ok (.getfield 145, 3) := dk_180 0 145 (dk_at dksX5_point_2 4 rfl rfl)
theorem dX5_point_55 : decode cX5_point 55 = .ok (.ifCond .eq 27, 3) := dk_153 0 27 (dk_at dksX5_point_2 7 rfl rfl)
theorem dX5_point_58 : decode cX5_point 58 = .ok (.aload_n 0, 1) := dk_42 (dk_at dksX5_point_2 10 rfl rfl)
theorem dX5_point_59 : decode cX5_point 59 = .ok (.getfield 80, 3) := dk_180 0 80 (dk_at dksX5_point_2 11 rfl rfl)
theorem dX5_point_62 : decode cX5_point 62 = .ok (.aload_n 0, 1) := dk_42 (dk_at dksX5_point_2 14 rfl rfl)
theorem dX5_point_63 : decode cX5_point 63 = .ok (.getfield 25, 3) := dk_180 0 25 (dk_at dksX5_point_2 15 rfl rfl)
theorem dX5_point_66 : decode cX5_point 66 = .ok (.getfield 148, 3) := dk_180 0 148 (dk_at dksX5_point_2 18 rfl rfl)
theorem dX5_point_69 : decode cX5_point 69 = .ok (.aload_n 0, 1) := dk_42 (dk_at dksX5_point_2 21 rfl rfl)
theorem dX5_point_70 : decode cX5_point 70 = .ok (.getfield 25, 3) := dk_180 0 25 (dk_at dksX5_point_3 0 rfl rfl)
theorem dX5_point_73 : decode cX5_point 73 = .ok (.getfield 145, 3) := dk_180 0 145 (dk_at dksX5_point_3 3 rfl rfl)
theorem dX5_point_76 : decode cX5_point 76 = .ok (.iconst 1, 1) := dk_4 (dk_at dksX5_point_3 6 rfl rfl)
theorem dX5_point_77 : decode cX5_point 77 = .ok (.isub, 1) := dk_100 (dk_at dksX5_point_3 7 rfl rfl)
theorem dX5_point_78 : decode cX5_point 78 = .ok (.iaload, 1) := dk_46 (dk_at dksX5_point_3 8 rfl rfl)
theorem dX5_point_79 : decode cX5_point 79 = .ok (.if_icmp .le 7, 3) := dk_164 0 7 (dk_at dksX5_point_3 9 rfl rfl)
theorem dX5_point_82 : decode cX5_point 82 = .ok (.iconst 1, 1) := dk_4 (dk_at dksX5_point_3 12 rfl rfl)
theorem dX5_point_83 : decode cX5_point 83 = .ok (.goto 4, 3) := dk_167 0 4 (dk_at dksX5_point_3 13 rfl rfl)
theorem dX5_point_86 : decode cX5_point 86 = .ok (.iconst 0, 1) := dk_3 (dk_at dksX5_point_3 16 rfl rfl)
theorem dX5_point_87 : decode cX5_point 87 = .ok (.iconst 3, 1) := dk_6 (dk_at dksX5_point_3 17 rfl rfl)
theorem dX5_point_88 : decode cX5_point 88 = .ok (.invokevirtual 98, 3) := dk_182 0 98 (dk_at dksX5_point_3 18 rfl rfl)
theorem dX5_point_91 : decode cX5_point 91 = .ok (.aload_n 0, 1) := dk_42 (dk_at dksX5_point_3 21 rfl rfl)
theorem dX5_point_92 : decode cX5_point 92 = .ok (.getfield 25, 3) := dk_180 0 25 (dk_at dksX5_point_4 0 rfl rfl)
theorem dX5_point_95 : decode cX5_point 95 = .ok (.getfield 148, 3) := dk_180 0 148 (dk_at dksX5_point_4 3 rfl rfl)
theorem dX5_point_98 : decode cX5_point 98 = .ok (.aload_n 0, 1) := dk_42 (dk_at dksX5_point_4 6 rfl rfl)
theorem dX5_point_99 : decode cX5_point 99 = .ok (.getfield 25, 3) := dk_180 0 25 (dk_at dksX5_point_4 7 rfl rfl)
theorem dX5_point_102 : decode cX5_point 102 = .ok (.getfield 145, 3) := dk_180 0 145 (dk_at dksX5_point_4 10 rfl rfl)
theorem dX5_point_105 : decode cX5_point 105 = .ok (.aload_n 0, 1) := dk_42 (dk_at dksX5_point_4 13 rfl rfl)
theorem dX5_point_106 : decode cX5_point 106 = .ok (.getfield 80, 3) := dk_180 0 80 (dk_at dksX5_point_4 14 rfl rfl)
theorem dX5_point_109 : decode cX5_point 109 = .ok (.iastore, 1) := dk_79 (dk_at dksX5_point_4 17 rfl rfl)
theorem dX5_point_110 : decode cX5_point 110 = .ok (.aload_n 0, 1) := dk_42 (dk_at dksX5_point_4 18 rfl rfl)
theorem dX5_point_111 : decode cX5_point 111 = .ok (.invokevirtual 102, 3) := dk_182 0 102 (dk_at dksX5_point_4 19 rfl rfl)
theorem dX5_point_114 : decode cX5_point 114 = .ok (.aload_n 0, 1) := dk_42 (dk_at dksX5_point_4 22 rfl rfl)
theorem dX5_point_115 : decode cX5_point 115 = .ok (.getfield 25, 3) := dk_180 0 25 (dk_at dksX5_point_5 0 rfl rfl)
theorem dX5_point_118 : decode cX5_point 118 = .ok (.getfield 152, 3) := dk_180 0 152 (dk_at dksX5_point_5 3 rfl rfl)
theorem dX5_point_121 : decode cX5_point 121 = .ok (.aload_n 0, 1) := dk_42 (dk_at dksX5_point_5 6 rfl rfl)
theorem dX5_point_122 : decode cX5_point 122 = .ok (.getfield 25, 3) := dk_180 0 25 (dk_at dksX5_point_5 7 rfl rfl)
theorem dX5_point_125 : decode cX5_point 125 = .ok (.getfield 145, 3) := dk_180 0 145 (dk_at dksX5_point_5 10 rfl rfl)
theorem dX5_point_128 : decode cX5_point 128 = .ok (.ldc2_w 156, 3) := dk_20 0 156 (dk_at dksX5_point_5 13 rfl rfl)
theorem dX5_point_131 : decode cX5_point 131 = .ok (.aload_n 0, 1) := dk_42 (dk_at dksX5_point_5 16 rfl rfl)
theorem dX5_point_132 : decode cX5_point 132 = .ok (.iconst 1, 1) := dk_4 (dk_at dksX5_point_5 17 rfl rfl)
theorem dX5_point_133 : decode cX5_point 133 = .ok (.sipush 3000, 3) := dk_17 11 184 (dk_at dksX5_point_5 18 rfl rfl)
theorem dX5_point_136 : decode cX5_point 136 = .ok (.invokevirtual 114, 3) := dk_182 0 114 (dk_at dksX5_point_5 21 rfl rfl)
theorem dX5_point_139 : decode cX5_point 139 = .ok (.i2l, 1) := dk_133 (dk_at dksX5_point_6 0 rfl rfl)
theorem dX5_point_140 : decode cX5_point 140 = .ok (.lmul, 1) := dk_105 (dk_at dksX5_point_6 1 rfl rfl)
theorem dX5_point_141 : decode cX5_point 141 = .ok (.lastore, 1) := dk_80 (dk_at dksX5_point_6 2 rfl rfl)
theorem dX5_point_142 : decode cX5_point 142 = .ok (.aload_n 0, 1) := dk_42 (dk_at dksX5_point_6 3 rfl rfl)
theorem dX5_point_143 : decode cX5_point 143 = .ok (.getfield 25, 3) := dk_180 0 25 (dk_at dksX5_point_6 4 rfl rfl)
theorem dX5_point_146 : decode cX5_point 146 = .ok (.getfield 158, 3) := dk_180 0 158 (dk_at dksX5_point_6 7 rfl rfl)
theorem dX5_point_149 : decode cX5_point 149 = .ok (.aload_n 0, 1) := dk_42 (dk_at dksX5_point_6 10 rfl rfl)
theorem dX5_point_150 : decode cX5_point 150 = .ok (.getfield 25, 3) := dk_180 0 25 (dk_at dksX5_point_6 11 rfl rfl)
theorem dX5_point_153 : decode cX5_point 153 = .ok (.getfield 145, 3) := dk_180 0 145 (dk_at dksX5_point_6 14 rfl rfl)
theorem dX5_point_156 : decode cX5_point 156 = .ok (.ldc2_w 156, 3) := dk_20 0 156 (dk_at dksX5_point_6 17 rfl rfl)
theorem dX5_point_159 : decode cX5_point 159 = .ok (.aload_n 0, 1) := dk_42 (dk_at dksX5_point_6 20 rfl rfl)
theorem dX5_point_160 : decode cX5_point 160 = .ok (.sipush (-3000), 3) := dk_17 244 72 (dk_at dksX5_point_6 21 rfl rfl)
theorem dX5_point_163 : decode cX5_point 163 = .ok (.sipush 3000, 3) := dk_17 11 184 (dk_at dksX5_point_7 0 rfl rfl)
theorem dX5_point_166 : decode cX5_point 166 = .ok (.invokevirtual 114, 3) := dk_182 0 114 (dk_at dksX5_point_7 3 rfl rfl)
theorem dX5_point_169 : decode cX5_point 169 = .ok (.i2l, 1) := dk_133 (dk_at dksX5_point_7 6 rfl rfl)
theorem dX5_point_170 : decode cX5_point 170 = .ok (.lmul, 1) := dk_105 (dk_at dksX5_point_7 7 rfl rfl)
theorem dX5_point_171 : decode cX5_point 171 = .ok (.lastore, 1) := dk_80 (dk_at dksX5_point_7 8 rfl rfl)
theorem dX5_point_172 : decode cX5_point 172 = .ok (.aload_n 0, 1) := dk_42 (dk_at dksX5_point_7 9 rfl rfl)
theorem dX5_point_173 : decode cX5_point 173 = .ok (.getfield 25, 3) := dk_180 0 25 (dk_at dksX5_point_7 10 rfl rfl)
theorem dX5_point_176 : decode cX5_point 176 = .ok (.dup, 1) := dk_89 (dk_at dksX5_point_7 13 rfl rfl)
theorem dX5_point_177 : decode cX5_point 177 = .ok (.getfield 145, 3) := dk_180 0 145 (dk_at dksX5_point_7 14 rfl rfl)
theorem dX5_point_180 : decode cX5_point 180 = .ok (.iconst 1, 1) := dk_4 (dk_at dksX5_point_7 17 rfl rfl)
theorem dX5_point_181 : decode cX5_point 181 = .ok (.iadd, 1) := dk_96 (dk_at dksX5_point_7 18 rfl rfl)
theorem dX5_point_182 : decode cX5_point 182 = .ok (.putfield 145, 3) := dk_181 0 145 (dk_at dksX5_point_7 19 rfl rfl)
theorem dX5_point_185 : decode cX5_point 185 = .ok (.aload_n 0, 1) := dk_42 (dk_at dksX5_point_7 22 rfl rfl)
theorem dX5_point_186 : decode cX5_point 186 = .ok (.invokevirtual 124, 3) := dk_182 0 124 (dk_at dksX5_point_8 0 rfl rfl)
theorem dX5_point_189 : decode cX5_point 189 = .ok (.return_, 1) := dk_177 (dk_at dksX5_point_8 3 rfl rfl)
abbrev cX5_band : ByteArray := prog_11_method_16_code
def yX5_band : MethodName := ⟨RX5, "band", "()V"⟩
def dkwX5_band_5 : List UInt8 := [96, 181, 0, 163, 42, 182, 0, 102, 42, 182, 0, 124, 177]
abbrev dktX5_band_5 : List UInt8 := dkwX5_band_5 ++ []
def dkwX5_band_4 : List UInt8 := [180, 0, 169, 42, 180, 0, 25, 180, 0, 163, 42, 180, 0, 80, 79, 42, 180, 0, 25, 89, 180, 0, 163, 4]
abbrev dktX5_band_4 : List UInt8 := dkwX5_band_4 ++ dktX5_band_5
def dkwX5_band_3 : List UInt8 := [6, 182, 0, 98, 42, 180, 0, 25, 180, 0, 166, 42, 180, 0, 25, 180, 0, 163, 27, 79, 42, 180, 0, 25]
abbrev dktX5_band_3 : List UInt8 := dkwX5_band_3 ++ dktX5_band_4
def dkwX5_band_2 : List UInt8 := [42, 17, 5, 220, 17, 117, 48, 182, 0, 105, 42, 42, 180, 0, 80, 27, 161, 0, 7, 4, 167, 0, 4, 3]
abbrev dktX5_band_2 : List UInt8 := dkwX5_band_2 ++ dktX5_band_3
def dkwX5_band_1 : List UInt8 := [4, 167, 0, 4, 3, 7, 182, 0, 98, 42, 182, 0, 102, 42, 17, 5, 220, 17, 117, 48, 182, 0, 114, 60]
abbrev dktX5_band_1 : List UInt8 := dkwX5_band_1 ++ dktX5_band_2
def dkwX5_band_0 : List UInt8 := [42, 42, 18, 161, 182, 0, 94, 4, 182, 0, 98, 42, 42, 180, 0, 25, 180, 0, 163, 16, 8, 162, 0, 7]
abbrev dktX5_band_0 : List UInt8 := dkwX5_band_0 ++ dktX5_band_1
theorem dksX5_band_0 : cX5_band.data.toList.drop 0 = dktX5_band_0 := by decide +kernel
theorem dksX5_band_1 : cX5_band.data.toList.drop 24 = dktX5_band_1 := dk_seg dksX5_band_0 24 rfl rfl
theorem dksX5_band_2 : cX5_band.data.toList.drop 48 = dktX5_band_2 := dk_seg dksX5_band_1 24 rfl rfl
theorem dksX5_band_3 : cX5_band.data.toList.drop 72 = dktX5_band_3 := dk_seg dksX5_band_2 24 rfl rfl
theorem dksX5_band_4 : cX5_band.data.toList.drop 96 = dktX5_band_4 := dk_seg dksX5_band_3 24 rfl rfl
theorem dksX5_band_5 : cX5_band.data.toList.drop 120 = dktX5_band_5 := dk_seg dksX5_band_4 24 rfl rfl
theorem dX5_band_0 : decode cX5_band 0 = .ok (.aload_n 0, 1) := dk_42 (dk_at dksX5_band_0 0 rfl rfl)
theorem dX5_band_1 : decode cX5_band 1 = .ok (.aload_n 0, 1) := dk_42 (dk_at dksX5_band_0 1 rfl rfl)
theorem dX5_band_2 : decode cX5_band 2 = .ok (.ldc 161, 2) := dk_18 161 (dk_at dksX5_band_0 2 rfl rfl)
theorem dX5_band_4 : decode cX5_band 4 = .ok (.invokevirtual 94, 3) := dk_182 0 94 (dk_at dksX5_band_0 4 rfl rfl)
theorem dX5_band_7 : decode cX5_band 7 = .ok (.iconst 1, 1) := dk_4 (dk_at dksX5_band_0 7 rfl rfl)
theorem dX5_band_8 : decode cX5_band 8 = .ok (.invokevirtual 98, 3) := dk_182 0 98 (dk_at dksX5_band_0 8 rfl rfl)
theorem dX5_band_11 : decode cX5_band 11 = .ok (.aload_n 0, 1) := dk_42 (dk_at dksX5_band_0 11 rfl rfl)
theorem dX5_band_12 : decode cX5_band 12 = .ok (.aload_n 0, 1) := dk_42 (dk_at dksX5_band_0 12 rfl rfl)
theorem dX5_band_13 : decode cX5_band 13 = .ok (.getfield 25, 3) := dk_180 0 25 (dk_at dksX5_band_0 13 rfl rfl)
theorem dX5_band_16 : decode cX5_band 16 = .ok (.getfield 163, 3) := dk_180 0 163 (dk_at dksX5_band_0 16 rfl rfl)
theorem dX5_band_19 : decode cX5_band 19 = .ok (.bipush 8, 2) := dk_16 8 (dk_at dksX5_band_0 19 rfl rfl)
theorem dX5_band_21 : decode cX5_band 21 = .ok (.if_icmp .ge 7, 3) := dk_162 0 7 (dk_at dksX5_band_0 21 rfl rfl)
theorem dX5_band_24 : decode cX5_band 24 = .ok (.iconst 1, 1) := dk_4 (dk_at dksX5_band_1 0 rfl rfl)
theorem dX5_band_25 : decode cX5_band 25 = .ok (.goto 4, 3) := dk_167 0 4 (dk_at dksX5_band_1 1 rfl rfl)
theorem dX5_band_28 : decode cX5_band 28 = .ok (.iconst 0, 1) := dk_3 (dk_at dksX5_band_1 4 rfl rfl)
theorem dX5_band_29 : decode cX5_band 29 = .ok (.iconst 4, 1) := dk_7 (dk_at dksX5_band_1 5 rfl rfl)
theorem dX5_band_30 : decode cX5_band 30 = .ok (.invokevirtual 98, 3) := dk_182 0 98 (dk_at dksX5_band_1 6 rfl rfl)
theorem dX5_band_33 : decode cX5_band 33 = .ok (.aload_n 0, 1) := dk_42 (dk_at dksX5_band_1 9 rfl rfl)
theorem dX5_band_34 : decode cX5_band 34 = .ok (.invokevirtual 102, 3) := dk_182 0 102 (dk_at dksX5_band_1 10 rfl rfl)
theorem dX5_band_37 : decode cX5_band 37 = .ok (.aload_n 0, 1) := dk_42 (dk_at dksX5_band_1 13 rfl rfl)
theorem dX5_band_38 : decode cX5_band 38 = .ok (.sipush 1500, 3) := dk_17 5 220 (dk_at dksX5_band_1 14 rfl rfl)
theorem dX5_band_41 : decode cX5_band 41 = .ok (.sipush 30000, 3) := dk_17 117 48 (dk_at dksX5_band_1 17 rfl rfl)
theorem dX5_band_44 : decode cX5_band 44 = .ok (.invokevirtual 114, 3) := dk_182 0 114 (dk_at dksX5_band_1 20 rfl rfl)
theorem dX5_band_47 : decode cX5_band 47 = .ok (.istore_n 1, 1) := dk_60 (dk_at dksX5_band_1 23 rfl rfl)
theorem dX5_band_48 : decode cX5_band 48 = .ok (.aload_n 0, 1) := dk_42 (dk_at dksX5_band_2 0 rfl rfl)
theorem dX5_band_49 : decode cX5_band 49 = .ok (.sipush 1500, 3) := dk_17 5 220 (dk_at dksX5_band_2 1 rfl rfl)
theorem dX5_band_52 : decode cX5_band 52 = .ok (.sipush 30000, 3) := dk_17 117 48 (dk_at dksX5_band_2 4 rfl rfl)
theorem dX5_band_55 : decode cX5_band 55 = .ok (.invokevirtual 105, 3) := dk_182 0 105 (dk_at dksX5_band_2 7 rfl rfl)
theorem dX5_band_58 : decode cX5_band 58 = .ok (.aload_n 0, 1) := dk_42 (dk_at dksX5_band_2 10 rfl rfl)
theorem dX5_band_59 : decode cX5_band 59 = .ok (.aload_n 0, 1) := dk_42 (dk_at dksX5_band_2 11 rfl rfl)
theorem dX5_band_60 : decode cX5_band 60 = .ok (.getfield 80, 3) := dk_180 0 80 (dk_at dksX5_band_2 12 rfl rfl)
theorem dX5_band_63 : decode cX5_band 63 = .ok (.iload_n 1, 1) := dk_27 (dk_at dksX5_band_2 15 rfl rfl)
theorem dX5_band_64 : decode cX5_band 64 = .ok (.if_icmp .lt 7, 3) := dk_161 0 7 (dk_at dksX5_band_2 16 rfl rfl)
theorem dX5_band_67 : decode cX5_band 67 = .ok (.iconst 1, 1) := dk_4 (dk_at dksX5_band_2 19 rfl rfl)
theorem dX5_band_68 : decode cX5_band 68 = .ok (.goto 4, 3) := dk_167 0 4 (dk_at dksX5_band_2 20 rfl rfl)
theorem dX5_band_71 : decode cX5_band 71 = .ok (.iconst 0, 1) := dk_3 (dk_at dksX5_band_2 23 rfl rfl)
theorem dX5_band_72 : decode cX5_band 72 = .ok (.iconst 3, 1) := dk_6 (dk_at dksX5_band_3 0 rfl rfl)
theorem dX5_band_73 : decode cX5_band 73 = .ok (.invokevirtual 98, 3) := dk_182 0 98 (dk_at dksX5_band_3 1 rfl rfl)
theorem dX5_band_76 : decode cX5_band 76 = .ok (.aload_n 0, 1) := dk_42 (dk_at dksX5_band_3 4 rfl rfl)
theorem dX5_band_77 : decode cX5_band 77 = .ok (.getfield 25, 3) := dk_180 0 25 (dk_at dksX5_band_3 5 rfl rfl)
theorem dX5_band_80 : decode cX5_band 80 = .ok (.getfield 166, 3) := dk_180 0 166 (dk_at dksX5_band_3 8 rfl rfl)
theorem dX5_band_83 : decode cX5_band 83 = .ok (.aload_n 0, 1) := dk_42 (dk_at dksX5_band_3 11 rfl rfl)
theorem dX5_band_84 : decode cX5_band 84 = .ok (.getfield 25, 3) := dk_180 0 25 (dk_at dksX5_band_3 12 rfl rfl)
theorem dX5_band_87 : decode cX5_band 87 = .ok (.getfield 163, 3) := dk_180 0 163 (dk_at dksX5_band_3 15 rfl rfl)
theorem dX5_band_90 : decode cX5_band 90 = .ok (.iload_n 1, 1) := dk_27 (dk_at dksX5_band_3 18 rfl rfl)
theorem dX5_band_91 : decode cX5_band 91 = .ok (.iastore, 1) := dk_79 (dk_at dksX5_band_3 19 rfl rfl)
theorem dX5_band_92 : decode cX5_band 92 = .ok (.aload_n 0, 1) := dk_42 (dk_at dksX5_band_3 20 rfl rfl)
theorem dX5_band_93 : decode cX5_band 93 = .ok (.getfield 25, 3) := dk_180 0 25 (dk_at dksX5_band_3 21 rfl rfl)
theorem dX5_band_96 : decode cX5_band 96 = .ok (.getfield 169, 3) := dk_180 0 169 (dk_at dksX5_band_4 0 rfl rfl)
theorem dX5_band_99 : decode cX5_band 99 = .ok (.aload_n 0, 1) := dk_42 (dk_at dksX5_band_4 3 rfl rfl)
theorem dX5_band_100 : decode cX5_band 100 = .ok (.getfield 25, 3) := dk_180 0 25 (dk_at dksX5_band_4 4 rfl rfl)
theorem dX5_band_103 : decode cX5_band 103 = .ok (.getfield 163, 3) := dk_180 0 163 (dk_at dksX5_band_4 7 rfl rfl)
theorem dX5_band_106 : decode cX5_band 106 = .ok (.aload_n 0, 1) := dk_42 (dk_at dksX5_band_4 10 rfl rfl)
theorem dX5_band_107 : decode cX5_band 107 = .ok (.getfield 80, 3) := dk_180 0 80 (dk_at dksX5_band_4 11 rfl rfl)
theorem dX5_band_110 : decode cX5_band 110 = .ok (.iastore, 1) := dk_79 (dk_at dksX5_band_4 14 rfl rfl)
theorem dX5_band_111 : decode cX5_band 111 = .ok (.aload_n 0, 1) := dk_42 (dk_at dksX5_band_4 15 rfl rfl)
theorem dX5_band_112 : decode cX5_band 112 = .ok (.getfield 25, 3) := dk_180 0 25 (dk_at dksX5_band_4 16 rfl rfl)
theorem dX5_band_115 : decode cX5_band 115 = .ok (.dup, 1) := dk_89 (dk_at dksX5_band_4 19 rfl rfl)
theorem dX5_band_116 : decode cX5_band 116 = .ok (.getfield 163, 3) := dk_180 0 163 (dk_at dksX5_band_4 20 rfl rfl)
theorem dX5_band_119 : decode cX5_band 119 = .ok (.iconst 1, 1) := dk_4 (dk_at dksX5_band_4 23 rfl rfl)
theorem dX5_band_120 : decode cX5_band 120 = .ok (.iadd, 1) := dk_96 (dk_at dksX5_band_5 0 rfl rfl)
theorem dX5_band_121 : decode cX5_band 121 = .ok (.putfield 163, 3) := dk_181 0 163 (dk_at dksX5_band_5 1 rfl rfl)
theorem dX5_band_124 : decode cX5_band 124 = .ok (.aload_n 0, 1) := dk_42 (dk_at dksX5_band_5 4 rfl rfl)
theorem dX5_band_125 : decode cX5_band 125 = .ok (.invokevirtual 102, 3) := dk_182 0 102 (dk_at dksX5_band_5 5 rfl rfl)
theorem dX5_band_128 : decode cX5_band 128 = .ok (.aload_n 0, 1) := dk_42 (dk_at dksX5_band_5 8 rfl rfl)
theorem dX5_band_129 : decode cX5_band 129 = .ok (.invokevirtual 124, 3) := dk_182 0 124 (dk_at dksX5_band_5 9 rfl rfl)
theorem dX5_band_132 : decode cX5_band 132 = .ok (.return_, 1) := dk_177 (dk_at dksX5_band_5 12 rfl rfl)
theorem q102 : (Jvm.Cond.initialized "AntennaTuner$Parser") ∈ lw_all := lw_g (lw_at lw_m1 9 rfl) rfl
theorem q277 : (Jvm.Cond.fieldLinkNest "AntennaTuner$Parser" (35 : Nat) "AntennaTuner" "buffer" "[B" "AntennaTuner") ∈ lw_tbl := lw_at lw_m1 184 rfl
theorem q279 : (Jvm.Cond.fieldLinkNest "AntennaTuner$Parser" (15 : Nat) "AntennaTuner" "used" "I" "AntennaTuner") ∈ lw_tbl := lw_at lw_m1 186 rfl
theorem q340 : (Jvm.Cond.instantiable "AntennaTuner$Parser" (8 : Nat)) ∈ lw_all := lw_g (lw_at lw_m2 7 rfl) rfl
theorem q342 : (Jvm.Cond.instanceMethod ({ cls := "AntennaTuner$Parser", name := "<init>", desc := "(LAntennaTuner;)V" } : Jvm.MethodName)) ∈ lw_all := lw_g (lw_at lw_m2 9 rfl) rfl
theorem q343 : (Jvm.Cond.code ({ cls := "AntennaTuner$Parser", name := "<init>", desc := "(LAntennaTuner;)V" } : Jvm.MethodName) prog_11_method_1_code (2 : Nat) (Option.none : Option Jvm.ClassFile.FieldType)) ∈ lw_all := lw_g (lw_at lw_m2 10 rfl) rfl
theorem q344 : (Jvm.Cond.methodLink "AntennaTuner$Parser" (9 : Nat) ({ cls := "java/lang/Object", name := "<init>", desc := "()V" } : Jvm.MethodName)) ∈ lw_all := lw_g (lw_at lw_m2 11 rfl) rfl
theorem q345 : (Jvm.Cond.classLink "AntennaTuner$Parser" (22 : Nat) "AntennaTuner$Tuner") ∈ lw_all := lw_g (lw_at lw_m2 12 rfl) rfl
theorem q347 : (Jvm.Cond.methodLinkNest "AntennaTuner$Parser" (24 : Nat) ({ cls := "AntennaTuner$Tuner", name := "<init>", desc := "()V" } : Jvm.MethodName) "AntennaTuner") ∈ lw_tbl := lw_at lw_m2 14 rfl
theorem q352 : (Jvm.Cond.fieldLinkNest "AntennaTuner$Parser" (118 : Nat) "AntennaTuner$Tuner" "inductance" "I" "AntennaTuner") ∈ lw_tbl := lw_at lw_m2 19 rfl
theorem q354 : (Jvm.Cond.fieldLinkNest "AntennaTuner$Parser" (121 : Nat) "AntennaTuner$Tuner" "quality" "I" "AntennaTuner") ∈ lw_tbl := lw_at lw_m2 21 rfl
theorem q356 : (Jvm.Cond.fieldLinkNest "AntennaTuner$Parser" (129 : Nat) "AntennaTuner$Tuner" "capacitance" "I" "AntennaTuner") ∈ lw_tbl := lw_at lw_m2 23 rfl
theorem q358 : (Jvm.Cond.fieldLinkNest "AntennaTuner$Parser" (134 : Nat) "AntennaTuner$Tuner" "power" "I" "AntennaTuner") ∈ lw_tbl := lw_at lw_m2 25 rfl
theorem q360 : (Jvm.Cond.fieldLinkNest "AntennaTuner$Parser" (137 : Nat) "AntennaTuner$Tuner" "ratedVoltage" "I" "AntennaTuner") ∈ lw_tbl := lw_at lw_m2 27 rfl
theorem q363 : (Jvm.Cond.fieldLinkNest "AntennaTuner$Parser" (140 : Nat) "AntennaTuner$Tuner" "greatestSwr" "I" "AntennaTuner") ∈ lw_tbl := lw_at lw_m2 30 rfl
theorem q367 : (Jvm.Cond.fieldLinkNest "AntennaTuner$Parser" (148 : Nat) "AntennaTuner$Tuner" "frequencies" "[I" "AntennaTuner") ∈ lw_tbl := lw_at lw_m2 34 rfl
theorem q369 : (Jvm.Cond.fieldLinkNest "AntennaTuner$Parser" (152 : Nat) "AntennaTuner$Tuner" "resistances" "[J" "AntennaTuner") ∈ lw_tbl := lw_at lw_m2 36 rfl
theorem q371 : (Jvm.Cond.fieldLinkNest "AntennaTuner$Parser" (158 : Nat) "AntennaTuner$Tuner" "reactances" "[J" "AntennaTuner") ∈ lw_tbl := lw_at lw_m2 38 rfl
theorem q374 : (Jvm.Cond.fieldLinkNest "AntennaTuner$Parser" (145 : Nat) "AntennaTuner$Tuner" "points" "I" "AntennaTuner") ∈ lw_tbl := lw_at lw_m2 41 rfl
theorem q376 : (Jvm.Cond.fieldLinkNest "AntennaTuner$Parser" (166 : Nat) "AntennaTuner$Tuner" "bandFrom" "[I" "AntennaTuner") ∈ lw_tbl := lw_at lw_m2 43 rfl
theorem q379 : (Jvm.Cond.fieldLinkNest "AntennaTuner$Parser" (169 : Nat) "AntennaTuner$Tuner" "bandTo" "[I" "AntennaTuner") ∈ lw_tbl := lw_at lw_m2 46 rfl
theorem q382 : (Jvm.Cond.fieldLinkNest "AntennaTuner$Parser" (163 : Nat) "AntennaTuner$Tuner" "bands" "I" "AntennaTuner") ∈ lw_tbl := lw_at lw_m2 49 rfl
theorem q413 : (Jvm.Cond.stringRef "AntennaTuner$Parser" (29 : Nat) "") ∈ lw_tbl := lw_at lw_m2 80 rfl
theorem q414 : (Jvm.Cond.fieldLink "AntennaTuner$Parser" (19 : Nat) "AntennaTuner$Parser" "size" "I") ∈ lw_all := lw_g (lw_at lw_m2 81 rfl) rfl
theorem q415 : (Jvm.Cond.fieldLink "AntennaTuner$Parser" (25 : Nat) "AntennaTuner$Parser" "result" "LAntennaTuner$Tuner;") ∈ lw_all := lw_g (lw_at lw_m2 82 rfl) rfl
theorem q416 : (Jvm.Cond.fieldLink "AntennaTuner$Parser" (50 : Nat) "AntennaTuner$Parser" "start" "I") ∈ lw_all := lw_g (lw_at lw_m2 83 rfl) rfl
theorem q417 : (Jvm.Cond.fieldLink "AntennaTuner$Parser" (47 : Nat) "AntennaTuner$Parser" "next" "I") ∈ lw_all := lw_g (lw_at lw_m2 84 rfl) rfl
theorem q418 : (Jvm.Cond.fieldLink "AntennaTuner$Parser" (53 : Nat) "AntennaTuner$Parser" "kind" "I") ∈ lw_all := lw_g (lw_at lw_m2 85 rfl) rfl
theorem q419 : (Jvm.Cond.fieldLink "AntennaTuner$Parser" (80 : Nat) "AntennaTuner$Parser" "value" "I") ∈ lw_all := lw_g (lw_at lw_m2 86 rfl) rfl
theorem q420 : (Jvm.Cond.fieldLink "AntennaTuner$Parser" (31 : Nat) "AntennaTuner$Parser" "keyword" "Ljava/lang/String;") ∈ lw_all := lw_g (lw_at lw_m2 87 rfl) rfl
theorem q421 : (Jvm.Cond.fieldLink "AntennaTuner$Parser" (3 : Nat) "AntennaTuner$Parser" "this$0" "LAntennaTuner;") ∈ lw_all := lw_g (lw_at lw_m2 88 rfl) rfl
theorem q422 : (Jvm.Cond.laysFinal "AntennaTuner$Parser" "AntennaTuner$Parser" "size" "I") ∈ lw_all := lw_g (lw_at lw_m2 89 rfl) rfl
theorem q423 : (Jvm.Cond.soleField "AntennaTuner$Parser" "size") ∈ lw_all := lw_g (lw_at lw_m2 90 rfl) rfl
theorem q424 : (Jvm.Cond.laysFinal "AntennaTuner$Parser" "AntennaTuner$Parser" "result" "LAntennaTuner$Tuner;") ∈ lw_all := lw_g (lw_at lw_m2 91 rfl) rfl
theorem q425 : (Jvm.Cond.soleField "AntennaTuner$Parser" "result") ∈ lw_all := lw_g (lw_at lw_m2 92 rfl) rfl
theorem q426 : (Jvm.Cond.lays "AntennaTuner$Parser" "AntennaTuner$Parser" "start" "I") ∈ lw_all := lw_g (lw_at lw_m2 93 rfl) rfl
theorem q427 : (Jvm.Cond.soleField "AntennaTuner$Parser" "start") ∈ lw_all := lw_g (lw_at lw_m2 94 rfl) rfl
theorem q428 : (Jvm.Cond.lays "AntennaTuner$Parser" "AntennaTuner$Parser" "next" "I") ∈ lw_all := lw_g (lw_at lw_m2 95 rfl) rfl
theorem q429 : (Jvm.Cond.soleField "AntennaTuner$Parser" "next") ∈ lw_all := lw_g (lw_at lw_m2 96 rfl) rfl
theorem q430 : (Jvm.Cond.lays "AntennaTuner$Parser" "AntennaTuner$Parser" "kind" "I") ∈ lw_all := lw_g (lw_at lw_m2 97 rfl) rfl
theorem q431 : (Jvm.Cond.soleField "AntennaTuner$Parser" "kind") ∈ lw_all := lw_g (lw_at lw_m2 98 rfl) rfl
theorem q432 : (Jvm.Cond.lays "AntennaTuner$Parser" "AntennaTuner$Parser" "value" "I") ∈ lw_all := lw_g (lw_at lw_m2 99 rfl) rfl
theorem q433 : (Jvm.Cond.soleField "AntennaTuner$Parser" "value") ∈ lw_all := lw_g (lw_at lw_m2 100 rfl) rfl
theorem q434 : (Jvm.Cond.lays "AntennaTuner$Parser" "AntennaTuner$Parser" "keyword" "Ljava/lang/String;") ∈ lw_all := lw_g (lw_at lw_m2 101 rfl) rfl
theorem q435 : (Jvm.Cond.soleField "AntennaTuner$Parser" "keyword") ∈ lw_all := lw_g (lw_at lw_m2 102 rfl) rfl
theorem q436 : (Jvm.Cond.laysFinal "AntennaTuner$Parser" "AntennaTuner$Parser" "this$0" "LAntennaTuner;") ∈ lw_all := lw_g (lw_at lw_m2 103 rfl) rfl
theorem q437 : (Jvm.Cond.soleField "AntennaTuner$Parser" "this$0") ∈ lw_all := lw_g (lw_at lw_m2 104 rfl) rfl
theorem q438 : (Jvm.Cond.superclass "AntennaTuner$Parser" "java/lang/Object") ∈ lw_all := lw_g (lw_at lw_m2 105 rfl) rfl
theorem q440 : (Jvm.Cond.instanceMethod ({ cls := "AntennaTuner$Parser", name := "parse", desc := "()LAntennaTuner$Tuner;" } : Jvm.MethodName)) ∈ lw_all := lw_g (lw_at lw_m2 107 rfl) rfl
theorem q441 : (Jvm.Cond.selects "AntennaTuner$Parser" ({ cls := "AntennaTuner$Parser", name := "parse", desc := "()LAntennaTuner$Tuner;" } : Jvm.MethodName) ({ cls := "AntennaTuner$Parser", name := "parse", desc := "()LAntennaTuner$Tuner;" } : Jvm.MethodName)) ∈ lw_all := lw_g (lw_at lw_m2 108 rfl) rfl
theorem q442 : (Jvm.Cond.code ({ cls := "AntennaTuner$Parser", name := "parse", desc := "()LAntennaTuner$Tuner;" } : Jvm.MethodName) prog_11_method_17_code (1 : Nat) (Option.some (Jvm.ClassFile.FieldType.object "AntennaTuner$Tuner"))) ∈ lw_all := lw_g (lw_at lw_m2 109 rfl) rfl
theorem q443 : (Jvm.Cond.methodLink "AntennaTuner$Parser" (102 : Nat) ({ cls := "AntennaTuner$Parser", name := "advance", desc := "()V" } : Jvm.MethodName)) ∈ lw_all := lw_g (lw_at lw_m2 110 rfl) rfl
theorem q444 : (Jvm.Cond.privateMethod ({ cls := "AntennaTuner$Parser", name := "advance", desc := "()V" } : Jvm.MethodName)) ∈ lw_tbl := lw_at lw_m2 111 rfl
theorem q445 : (Jvm.Cond.instanceMethod ({ cls := "AntennaTuner$Parser", name := "advance", desc := "()V" } : Jvm.MethodName)) ∈ lw_all := lw_g (lw_at lw_m2 112 rfl) rfl
theorem q446 : (Jvm.Cond.code ({ cls := "AntennaTuner$Parser", name := "advance", desc := "()V" } : Jvm.MethodName) prog_11_method_5_code (1 : Nat) (Option.none : Option Jvm.ClassFile.FieldType)) ∈ lw_all := lw_g (lw_at lw_m2 113 rfl) rfl
theorem q447 : (Jvm.Cond.methodLink "AntennaTuner$Parser" (39 : Nat) ({ cls := "AntennaTuner$Parser", name := "byteAt", desc := "(I)I" } : Jvm.MethodName)) ∈ lw_all := lw_g (lw_at lw_m2 114 rfl) rfl
theorem q448 : (Jvm.Cond.privateMethod ({ cls := "AntennaTuner$Parser", name := "byteAt", desc := "(I)I" } : Jvm.MethodName)) ∈ lw_tbl := lw_at lw_m2 115 rfl
theorem q449 : (Jvm.Cond.instanceMethod ({ cls := "AntennaTuner$Parser", name := "byteAt", desc := "(I)I" } : Jvm.MethodName)) ∈ lw_all := lw_g (lw_at lw_m2 116 rfl) rfl
theorem q450 : (Jvm.Cond.code ({ cls := "AntennaTuner$Parser", name := "byteAt", desc := "(I)I" } : Jvm.MethodName) prog_11_method_2_code (2 : Nat) (Option.some Jvm.ClassFile.FieldType.int)) ∈ lw_all := lw_g (lw_at lw_m2 117 rfl) rfl
theorem q451 : (Jvm.Cond.methodLink "AntennaTuner$Parser" (56 : Nat) ({ cls := "AntennaTuner$Parser", name := "isLetter", desc := "(I)Z" } : Jvm.MethodName)) ∈ lw_all := lw_g (lw_at lw_m2 118 rfl) rfl
theorem q452 : (Jvm.Cond.privateMethod ({ cls := "AntennaTuner$Parser", name := "isLetter", desc := "(I)Z" } : Jvm.MethodName)) ∈ lw_tbl := lw_at lw_m2 119 rfl
theorem q453 : (Jvm.Cond.instanceMethod ({ cls := "AntennaTuner$Parser", name := "isLetter", desc := "(I)Z" } : Jvm.MethodName)) ∈ lw_all := lw_g (lw_at lw_m2 120 rfl) rfl
theorem q454 : (Jvm.Cond.code ({ cls := "AntennaTuner$Parser", name := "isLetter", desc := "(I)Z" } : Jvm.MethodName) prog_11_method_4_code (2 : Nat) (Option.some Jvm.ClassFile.FieldType.boolean)) ∈ lw_all := lw_g (lw_at lw_m2 121 rfl) rfl
theorem q455 : (Jvm.Cond.methodLinkNest "AntennaTuner$Parser" (43 : Nat) ({ cls := "AntennaTuner", name := "isIn", desc := "(III)Z" } : Jvm.MethodName) "AntennaTuner") ∈ lw_tbl := lw_at lw_m2 122 rfl
theorem q456 : (Jvm.Cond.methodLink "AntennaTuner$Parser" (60 : Nat) ({ cls := "AntennaTuner$Parser", name := "scanKeyword", desc := "()V" } : Jvm.MethodName)) ∈ lw_all := lw_g (lw_at lw_m2 123 rfl) rfl
theorem q457 : (Jvm.Cond.privateMethod ({ cls := "AntennaTuner$Parser", name := "scanKeyword", desc := "()V" } : Jvm.MethodName)) ∈ lw_tbl := lw_at lw_m2 124 rfl
theorem q458 : (Jvm.Cond.instanceMethod ({ cls := "AntennaTuner$Parser", name := "scanKeyword", desc := "()V" } : Jvm.MethodName)) ∈ lw_all := lw_g (lw_at lw_m2 125 rfl) rfl
theorem q459 : (Jvm.Cond.code ({ cls := "AntennaTuner$Parser", name := "scanKeyword", desc := "()V" } : Jvm.MethodName) prog_11_method_6_code (2 : Nat) (Option.none : Option Jvm.ClassFile.FieldType)) ∈ lw_all := lw_g (lw_at lw_m2 126 rfl) rfl
theorem q460 : (Jvm.Cond.classLink "AntennaTuner$Parser" (69 : Nat) "java/lang/StringBuilder") ∈ lw_all := lw_g (lw_at lw_m2 127 rfl) rfl
theorem q462 : (Jvm.Cond.methodLink "AntennaTuner$Parser" (71 : Nat) ({ cls := "java/lang/StringBuilder", name := "<init>", desc := "()V" } : Jvm.MethodName)) ∈ lw_all := lw_g (lw_at lw_m2 129 rfl) rfl
theorem q491 : (Jvm.Cond.methodLink "AntennaTuner$Parser" (72 : Nat) ({ cls := "java/lang/StringBuilder", name := "append", desc := "(C)Ljava/lang/StringBuilder;" } : Jvm.MethodName)) ∈ lw_all := lw_g (lw_at lw_m2 158 rfl) rfl
theorem q586 : (Jvm.Cond.methodLink "AntennaTuner$Parser" (76 : Nat) ({ cls := "java/lang/StringBuilder", name := "toString", desc := "()Ljava/lang/String;" } : Jvm.MethodName)) ∈ lw_all := lw_g (lw_at lw_m3 13 rfl) rfl
theorem q647 : (Jvm.Cond.methodLink "AntennaTuner$Parser" (63 : Nat) ({ cls := "AntennaTuner$Parser", name := "isDigit", desc := "(I)Z" } : Jvm.MethodName)) ∈ lw_all := lw_g (lw_at lw_m3 74 rfl) rfl
theorem q648 : (Jvm.Cond.privateMethod ({ cls := "AntennaTuner$Parser", name := "isDigit", desc := "(I)Z" } : Jvm.MethodName)) ∈ lw_tbl := lw_at lw_m3 75 rfl
theorem q649 : (Jvm.Cond.instanceMethod ({ cls := "AntennaTuner$Parser", name := "isDigit", desc := "(I)Z" } : Jvm.MethodName)) ∈ lw_all := lw_g (lw_at lw_m3 76 rfl) rfl
theorem q650 : (Jvm.Cond.code ({ cls := "AntennaTuner$Parser", name := "isDigit", desc := "(I)Z" } : Jvm.MethodName) prog_11_method_3_code (2 : Nat) (Option.some Jvm.ClassFile.FieldType.boolean)) ∈ lw_all := lw_g (lw_at lw_m3 77 rfl) rfl
theorem q651 : (Jvm.Cond.methodLink "AntennaTuner$Parser" (66 : Nat) ({ cls := "AntennaTuner$Parser", name := "scanNumber", desc := "()V" } : Jvm.MethodName)) ∈ lw_all := lw_g (lw_at lw_m3 78 rfl) rfl
theorem q652 : (Jvm.Cond.privateMethod ({ cls := "AntennaTuner$Parser", name := "scanNumber", desc := "()V" } : Jvm.MethodName)) ∈ lw_tbl := lw_at lw_m3 79 rfl
theorem q653 : (Jvm.Cond.instanceMethod ({ cls := "AntennaTuner$Parser", name := "scanNumber", desc := "()V" } : Jvm.MethodName)) ∈ lw_all := lw_g (lw_at lw_m3 80 rfl) rfl
theorem q654 : (Jvm.Cond.code ({ cls := "AntennaTuner$Parser", name := "scanNumber", desc := "()V" } : Jvm.MethodName) prog_11_method_7_code (3 : Nat) (Option.none : Option Jvm.ClassFile.FieldType)) ∈ lw_all := lw_g (lw_at lw_m3 81 rfl) rfl
theorem q655 : (Jvm.Cond.methodLink "AntennaTuner$Parser" (172 : Nat) ({ cls := "AntennaTuner$Parser", name := "parts", desc := "()V" } : Jvm.MethodName)) ∈ lw_all := lw_g (lw_at lw_m3 82 rfl) rfl
theorem q656 : (Jvm.Cond.privateMethod ({ cls := "AntennaTuner$Parser", name := "parts", desc := "()V" } : Jvm.MethodName)) ∈ lw_tbl := lw_at lw_m3 83 rfl
theorem q657 : (Jvm.Cond.instanceMethod ({ cls := "AntennaTuner$Parser", name := "parts", desc := "()V" } : Jvm.MethodName)) ∈ lw_all := lw_g (lw_at lw_m3 84 rfl) rfl
theorem q658 : (Jvm.Cond.code ({ cls := "AntennaTuner$Parser", name := "parts", desc := "()V" } : Jvm.MethodName) prog_11_method_14_code (1 : Nat) (Option.none : Option Jvm.ClassFile.FieldType)) ∈ lw_all := lw_g (lw_at lw_m3 85 rfl) rfl
theorem q659 : (Jvm.Cond.stringRef "AntennaTuner$Parser" (108 : Nat) "coil") ∈ lw_tbl := lw_at lw_m3 86 rfl
theorem q660 : (Jvm.Cond.methodLink "AntennaTuner$Parser" (110 : Nat) ({ cls := "AntennaTuner$Parser", name := "expect", desc := "(Ljava/lang/String;)V" } : Jvm.MethodName)) ∈ lw_all := lw_g (lw_at lw_m3 87 rfl) rfl
theorem q661 : (Jvm.Cond.privateMethod ({ cls := "AntennaTuner$Parser", name := "expect", desc := "(Ljava/lang/String;)V" } : Jvm.MethodName)) ∈ lw_tbl := lw_at lw_m3 88 rfl
theorem q662 : (Jvm.Cond.instanceMethod ({ cls := "AntennaTuner$Parser", name := "expect", desc := "(Ljava/lang/String;)V" } : Jvm.MethodName)) ∈ lw_all := lw_g (lw_at lw_m3 89 rfl) rfl
theorem q663 : (Jvm.Cond.code ({ cls := "AntennaTuner$Parser", name := "expect", desc := "(Ljava/lang/String;)V" } : Jvm.MethodName) prog_11_method_10_code (2 : Nat) (Option.none : Option Jvm.ClassFile.FieldType)) ∈ lw_all := lw_g (lw_at lw_m3 90 rfl) rfl
theorem q664 : (Jvm.Cond.methodLink "AntennaTuner$Parser" (94 : Nat) ({ cls := "AntennaTuner$Parser", name := "isKeyword", desc := "(Ljava/lang/String;)Z" } : Jvm.MethodName)) ∈ lw_all := lw_g (lw_at lw_m3 91 rfl) rfl
theorem q665 : (Jvm.Cond.privateMethod ({ cls := "AntennaTuner$Parser", name := "isKeyword", desc := "(Ljava/lang/String;)Z" } : Jvm.MethodName)) ∈ lw_tbl := lw_at lw_m3 92 rfl
theorem q666 : (Jvm.Cond.instanceMethod ({ cls := "AntennaTuner$Parser", name := "isKeyword", desc := "(Ljava/lang/String;)Z" } : Jvm.MethodName)) ∈ lw_all := lw_g (lw_at lw_m3 93 rfl) rfl
theorem q667 : (Jvm.Cond.code ({ cls := "AntennaTuner$Parser", name := "isKeyword", desc := "(Ljava/lang/String;)Z" } : Jvm.MethodName) prog_11_method_9_code (2 : Nat) (Option.some Jvm.ClassFile.FieldType.boolean)) ∈ lw_all := lw_g (lw_at lw_m3 94 rfl) rfl
theorem q668 : (Jvm.Cond.methodLink "AntennaTuner$Parser" (88 : Nat) ({ cls := "java/lang/String", name := "equals", desc := "(Ljava/lang/Object;)Z" } : Jvm.MethodName)) ∈ lw_all := lw_g (lw_at lw_m3 95 rfl) rfl
theorem q676 : (Jvm.Cond.methodLink "AntennaTuner$Parser" (98 : Nat) ({ cls := "AntennaTuner$Parser", name := "require", desc := "(ZI)V" } : Jvm.MethodName)) ∈ lw_all := lw_g (lw_at lw_m3 103 rfl) rfl
theorem q677 : (Jvm.Cond.privateMethod ({ cls := "AntennaTuner$Parser", name := "require", desc := "(ZI)V" } : Jvm.MethodName)) ∈ lw_tbl := lw_at lw_m3 104 rfl
theorem q678 : (Jvm.Cond.instanceMethod ({ cls := "AntennaTuner$Parser", name := "require", desc := "(ZI)V" } : Jvm.MethodName)) ∈ lw_all := lw_g (lw_at lw_m3 105 rfl) rfl
theorem q679 : (Jvm.Cond.code ({ cls := "AntennaTuner$Parser", name := "require", desc := "(ZI)V" } : Jvm.MethodName) prog_11_method_8_code (3 : Nat) (Option.none : Option Jvm.ClassFile.FieldType)) ∈ lw_all := lw_g (lw_at lw_m3 106 rfl) rfl
theorem q680 : (Jvm.Cond.classLink "AntennaTuner$Parser" (83 : Nat) "AntennaTuner$TextError") ∈ lw_all := lw_g (lw_at lw_m3 107 rfl) rfl
theorem q723 : (Jvm.Cond.methodLink "AntennaTuner$Parser" (85 : Nat) ({ cls := "AntennaTuner$TextError", name := "<init>", desc := "(II)V" } : Jvm.MethodName)) ∈ lw_all := lw_g (lw_at lw_m3 150 rfl) rfl
theorem q753 : (Jvm.Cond.methodLink "AntennaTuner$Parser" (114 : Nat) ({ cls := "AntennaTuner$Parser", name := "number", desc := "(II)I" } : Jvm.MethodName)) ∈ lw_all := lw_g (lw_at lw_m3 180 rfl) rfl
theorem q754 : (Jvm.Cond.privateMethod ({ cls := "AntennaTuner$Parser", name := "number", desc := "(II)I" } : Jvm.MethodName)) ∈ lw_tbl := lw_at lw_m3 181 rfl
theorem q755 : (Jvm.Cond.instanceMethod ({ cls := "AntennaTuner$Parser", name := "number", desc := "(II)I" } : Jvm.MethodName)) ∈ lw_all := lw_g (lw_at lw_m3 182 rfl) rfl
theorem q756 : (Jvm.Cond.code ({ cls := "AntennaTuner$Parser", name := "number", desc := "(II)I" } : Jvm.MethodName) prog_11_method_13_code (4 : Nat) (Option.some Jvm.ClassFile.FieldType.int)) ∈ lw_all := lw_g (lw_at lw_m3 183 rfl) rfl
theorem q757 : (Jvm.Cond.methodLink "AntennaTuner$Parser" (105 : Nat) ({ cls := "AntennaTuner$Parser", name := "requireNumber", desc := "(II)V" } : Jvm.MethodName)) ∈ lw_all := lw_g (lw_at lw_m3 184 rfl) rfl
theorem q758 : (Jvm.Cond.privateMethod ({ cls := "AntennaTuner$Parser", name := "requireNumber", desc := "(II)V" } : Jvm.MethodName)) ∈ lw_tbl := lw_at lw_m3 185 rfl
theorem q759 : (Jvm.Cond.instanceMethod ({ cls := "AntennaTuner$Parser", name := "requireNumber", desc := "(II)V" } : Jvm.MethodName)) ∈ lw_all := lw_g (lw_at lw_m3 186 rfl) rfl
theorem q760 : (Jvm.Cond.code ({ cls := "AntennaTuner$Parser", name := "requireNumber", desc := "(II)V" } : Jvm.MethodName) prog_11_method_12_code (3 : Nat) (Option.none : Option Jvm.ClassFile.FieldType)) ∈ lw_all := lw_g (lw_at lw_m3 187 rfl) rfl
theorem q761 : (Jvm.Cond.methodLink "AntennaTuner$Parser" (124 : Nat) ({ cls := "AntennaTuner$Parser", name := "endStatement", desc := "()V" } : Jvm.MethodName)) ∈ lw_all := lw_g (lw_at lw_m3 188 rfl) rfl
theorem q762 : (Jvm.Cond.privateMethod ({ cls := "AntennaTuner$Parser", name := "endStatement", desc := "()V" } : Jvm.MethodName)) ∈ lw_tbl := lw_at lw_m3 189 rfl
theorem q763 : (Jvm.Cond.instanceMethod ({ cls := "AntennaTuner$Parser", name := "endStatement", desc := "()V" } : Jvm.MethodName)) ∈ lw_all := lw_g (lw_at lw_m3 190 rfl) rfl
theorem q764 : (Jvm.Cond.code ({ cls := "AntennaTuner$Parser", name := "endStatement", desc := "()V" } : Jvm.MethodName) prog_11_method_11_code (1 : Nat) (Option.none : Option Jvm.ClassFile.FieldType)) ∈ lw_all := lw_g (lw_at lw_m3 191 rfl) rfl
theorem q765 : (Jvm.Cond.stringRef "AntennaTuner$Parser" (127 : Nat) "capacitor") ∈ lw_tbl := lw_at lw_m3 192 rfl
theorem q766 : (Jvm.Cond.stringRef "AntennaTuner$Parser" (132 : Nat) "transmitter") ∈ lw_tbl := lw_at lw_m3 193 rfl
theorem q767 : (Jvm.Cond.methodLink "AntennaTuner$Parser" (175 : Nat) ({ cls := "AntennaTuner$Parser", name := "point", desc := "()V" } : Jvm.MethodName)) ∈ lw_all := lw_g (lw_at lw_m3 194 rfl) rfl
theorem q768 : (Jvm.Cond.privateMethod ({ cls := "AntennaTuner$Parser", name := "point", desc := "()V" } : Jvm.MethodName)) ∈ lw_tbl := lw_at lw_m3 195 rfl
theorem q769 : (Jvm.Cond.instanceMethod ({ cls := "AntennaTuner$Parser", name := "point", desc := "()V" } : Jvm.MethodName)) ∈ lw_all := lw_g (lw_at lw_m3 196 rfl) rfl
theorem q770 : (Jvm.Cond.code ({ cls := "AntennaTuner$Parser", name := "point", desc := "()V" } : Jvm.MethodName) prog_11_method_15_code (1 : Nat) (Option.none : Option Jvm.ClassFile.FieldType)) ∈ lw_all := lw_g (lw_at lw_m3 197 rfl) rfl
theorem q771 : (Jvm.Cond.stringRef "AntennaTuner$Parser" (143 : Nat) "point") ∈ lw_tbl := lw_at lw_m3 198 rfl
theorem q772 : (Jvm.Cond.constantLong "AntennaTuner$Parser" (156 : Nat) (1000 : Int64)) ∈ lw_all := lw_g (lw_at lw_m3 199 rfl) rfl
theorem q773 : (Jvm.Cond.methodLink "AntennaTuner$Parser" (177 : Nat) ({ cls := "AntennaTuner$Parser", name := "band", desc := "()V" } : Jvm.MethodName)) ∈ lw_all := lw_g (lw_at lw_m3 200 rfl) rfl
theorem q774 : (Jvm.Cond.privateMethod ({ cls := "AntennaTuner$Parser", name := "band", desc := "()V" } : Jvm.MethodName)) ∈ lw_tbl := lw_at lw_m3 201 rfl
theorem q775 : (Jvm.Cond.instanceMethod ({ cls := "AntennaTuner$Parser", name := "band", desc := "()V" } : Jvm.MethodName)) ∈ lw_all := lw_g (lw_at lw_m3 202 rfl) rfl
theorem q776 : (Jvm.Cond.code ({ cls := "AntennaTuner$Parser", name := "band", desc := "()V" } : Jvm.MethodName) prog_11_method_16_code (2 : Nat) (Option.none : Option Jvm.ClassFile.FieldType)) ∈ lw_all := lw_g (lw_at lw_m3 203 rfl) rfl
theorem q777 : (Jvm.Cond.stringRef "AntennaTuner$Parser" (161 : Nat) "band") ∈ lw_tbl := lw_at lw_m3 204 rfl
theorem q988 : (Jvm.Cond.selects "AntennaTuner$Parser" ({ cls := "java/lang/Object", name := "getClass", desc := "()Ljava/lang/Class;" } : Jvm.MethodName) ({ cls := "java/lang/Object", name := "getClass", desc := "()Ljava/lang/Class;" } : Jvm.MethodName)) ∈ lw_all := lw_g (lw_at lw_m4 175 rfl) rfl
theorem q2217 : (Jvm.Cond.castable "AntennaTuner$Parser" "java/lang/Object") ∈ lw_tbl := lw_at lw_m9 204 rfl
theorem in_X5 : ∀ w ∈ wsX50, w ∈ lw_all := lw_in wsX50 [422, 424, 426, 428, 430, 432, 434, 436] (by decide +kernel) (by decide +kernel)
/-! AntennaTuner$Tuner -/
set_option maxRecDepth 100000
def RX6 : String := "AntennaTuner$Tuner"
def TX6 : u_T := fun k => match k with
  | 0 => ("AntennaTuner$Tuner", "inductance", "I", false)
  | 1 => ("AntennaTuner$Tuner", "quality", "I", false)
  | 2 => ("AntennaTuner$Tuner", "capacitance", "I", false)
  | 3 => ("AntennaTuner$Tuner", "power", "I", false)
  | 4 => ("AntennaTuner$Tuner", "ratedVoltage", "I", false)
  | 5 => ("AntennaTuner$Tuner", "greatestSwr", "I", false)
  | 6 => ("AntennaTuner$Tuner", "frequencies", "[I", true)
  | 7 => ("AntennaTuner$Tuner", "resistances", "[J", true)
  | 8 => ("AntennaTuner$Tuner", "reactances", "[J", true)
  | 9 => ("AntennaTuner$Tuner", "points", "I", false)
  | 10 => ("AntennaTuner$Tuner", "bandFrom", "[I", true)
  | 11 => ("AntennaTuner$Tuner", "bandTo", "[I", true)
  | _ => ("AntennaTuner$Tuner", "bands", "I", false)
def tyX6 : Nat → FieldType := fun k => match k with
  | 0 => .int
  | 1 => .int
  | 2 => .int
  | 3 => .int
  | 4 => .int
  | 5 => .int
  | 6 => .array .int
  | 7 => .array .long
  | 8 => .array .long
  | 9 => .int
  | 10 => .array .int
  | 11 => .array .int
  | _ => .int
abbrev wsX60 : List Cond := u_ws RX6 TX6 13
set_option maxRecDepth 100000 in
theorem nmX6 : ∀ a, a < 13 → ∀ b, b < 13 → a ≠ b → (TX6 a).2.1 ≠ (TX6 b).2.1 := by decide +kernel
set_option maxRecDepth 100000 in
theorem tyX6_ok : ∀ k, k < 13 → parseFieldDescriptor (TX6 k).2.2.1 = some (tyX6 k) := by decide +kernel
abbrev cX6_init : ByteArray := prog_17_method_1_code
def yX6_init : MethodName := ⟨RX6, "<init>", "()V"⟩
def dkwX6_init_1 : List UInt8 := [188, 11, 181, 0, 19, 42, 16, 8, 188, 10, 181, 0, 22, 42, 16, 8, 188, 10, 181, 0, 25, 177]
abbrev dktX6_init_1 : List UInt8 := dkwX6_init_1 ++ []
def dkwX6_init_0 : List UInt8 := [42, 183, 0, 3, 42, 16, 16, 188, 10, 181, 0, 9, 42, 16, 16, 188, 11, 181, 0, 15, 42, 16, 16]
abbrev dktX6_init_0 : List UInt8 := dkwX6_init_0 ++ dktX6_init_1
theorem dksX6_init_0 : cX6_init.data.toList.drop 0 = dktX6_init_0 := by decide +kernel
theorem dksX6_init_1 : cX6_init.data.toList.drop 23 = dktX6_init_1 := dk_seg dksX6_init_0 23 rfl rfl
theorem dX6_init_0 : decode cX6_init 0 = .ok (.aload_n 0, 1) := dk_42 (dk_at dksX6_init_0 0 rfl rfl)
theorem dX6_init_1 : decode cX6_init 1 = .ok (.invokespecial 3, 3) := dk_183 0 3 (dk_at dksX6_init_0 1 rfl rfl)
theorem dX6_init_4 : decode cX6_init 4 = .ok (.aload_n 0, 1) := dk_42 (dk_at dksX6_init_0 4 rfl rfl)
theorem dX6_init_5 : decode cX6_init 5 = .ok (.bipush 16, 2) := dk_16 16 (dk_at dksX6_init_0 5 rfl rfl)
theorem dX6_init_7 : decode cX6_init 7 = .ok (.newarray .int, 2) := dk_188_10 (dk_at dksX6_init_0 7 rfl rfl)
theorem dX6_init_9 : decode cX6_init 9 = .ok (.putfield 9, 3) := dk_181 0 9 (dk_at dksX6_init_0 9 rfl rfl)
theorem dX6_init_12 : decode cX6_init 12 = .ok (.aload_n 0, 1) := dk_42 (dk_at dksX6_init_0 12 rfl rfl)
theorem dX6_init_13 : decode cX6_init 13 = .ok (.bipush 16, 2) := dk_16 16 (dk_at dksX6_init_0 13 rfl rfl)
theorem dX6_init_15 : decode cX6_init 15 = .ok (.newarray .long, 2) := dk_188_11 (dk_at dksX6_init_0 15 rfl rfl)
theorem dX6_init_17 : decode cX6_init 17 = .ok (.putfield 15, 3) := dk_181 0 15 (dk_at dksX6_init_0 17 rfl rfl)
theorem dX6_init_20 : decode cX6_init 20 = .ok (.aload_n 0, 1) := dk_42 (dk_at dksX6_init_0 20 rfl rfl)
theorem dX6_init_21 : decode cX6_init 21 = .ok (.bipush 16, 2) := dk_16 16 (dk_at dksX6_init_0 21 rfl rfl)
theorem dX6_init_23 : decode cX6_init 23 = .ok (.newarray .long, 2) := dk_188_11 (dk_at dksX6_init_1 0 rfl rfl)
theorem dX6_init_25 : decode cX6_init 25 = .ok (.putfield 19, 3) := dk_181 0 19 (dk_at dksX6_init_1 2 rfl rfl)
theorem dX6_init_28 : decode cX6_init 28 = .ok (.aload_n 0, 1) := dk_42 (dk_at dksX6_init_1 5 rfl rfl)
theorem dX6_init_29 : decode cX6_init 29 = .ok (.bipush 8, 2) := dk_16 8 (dk_at dksX6_init_1 6 rfl rfl)
theorem dX6_init_31 : decode cX6_init 31 = .ok (.newarray .int, 2) := dk_188_10 (dk_at dksX6_init_1 8 rfl rfl)
theorem dX6_init_33 : decode cX6_init 33 = .ok (.putfield 22, 3) := dk_181 0 22 (dk_at dksX6_init_1 10 rfl rfl)
theorem dX6_init_36 : decode cX6_init 36 = .ok (.aload_n 0, 1) := dk_42 (dk_at dksX6_init_1 13 rfl rfl)
theorem dX6_init_37 : decode cX6_init 37 = .ok (.bipush 8, 2) := dk_16 8 (dk_at dksX6_init_1 14 rfl rfl)
theorem dX6_init_39 : decode cX6_init 39 = .ok (.newarray .int, 2) := dk_188_10 (dk_at dksX6_init_1 16 rfl rfl)
theorem dX6_init_41 : decode cX6_init 41 = .ok (.putfield 25, 3) := dk_181 0 25 (dk_at dksX6_init_1 18 rfl rfl)
theorem dX6_init_44 : decode cX6_init 44 = .ok (.return_, 1) := dk_177 (dk_at dksX6_init_1 21 rfl rfl)
abbrev cX6_resistance : ByteArray := prog_17_method_3_code
def yX6_resistance : MethodName := ⟨RX6, "resistance", "(I)J"⟩
def dkwX6_resistance_0 : List UInt8 := [42, 42, 180, 0, 15, 27, 182, 0, 32, 173]
abbrev dktX6_resistance_0 : List UInt8 := dkwX6_resistance_0 ++ []
theorem dksX6_resistance_0 : cX6_resistance.data.toList.drop 0 = dktX6_resistance_0 := by decide +kernel
theorem dX6_resistance_0 : decode cX6_resistance 0 = .ok (.aload_n 0, 1) := dk_42 (dk_at dksX6_resistance_0 0 rfl rfl)
theorem dX6_resistance_1 : decode cX6_resistance 1 = .ok (.aload_n 0, 1) := dk_42 (dk_at dksX6_resistance_0 1 rfl rfl)
theorem dX6_resistance_2 : decode cX6_resistance 2 = .ok (.getfield 15, 3) := dk_180 0 15 (dk_at dksX6_resistance_0 2 rfl rfl)
theorem dX6_resistance_5 : decode cX6_resistance 5 = .ok (.iload_n 1, 1) := dk_27 (dk_at dksX6_resistance_0 5 rfl rfl)
theorem dX6_resistance_6 : decode cX6_resistance 6 = .ok (.invokevirtual 32, 3) := dk_182 0 32 (dk_at dksX6_resistance_0 6 rfl rfl)
theorem dX6_resistance_9 : decode cX6_resistance 9 = .ok (.lreturn, 1) := dk_173 (dk_at dksX6_resistance_0 9 rfl rfl)
abbrev cX6_interpolate : ByteArray := prog_17_method_2_code
def yX6_interpolate : MethodName := ⟨RX6, "interpolate", "([JI)J"⟩
def dkwX6_interpolate_4 : List UInt8 := [133, 109, 97, 173]
abbrev dktX6_interpolate_4 : List UInt8 := dkwX6_interpolate_4 ++ []
def dkwX6_interpolate_3 : List UInt8 := [42, 180, 0, 9, 29, 46, 100, 133, 105, 42, 180, 0, 9, 29, 4, 96, 46, 42, 180, 0, 9, 29, 46, 100]
abbrev dktX6_interpolate_3 : List UInt8 := dkwX6_interpolate_3 ++ dktX6_interpolate_4
def dkwX6_interpolate_2 : List UInt8 := [42, 180, 0, 28, 160, 0, 7, 43, 29, 47, 173, 43, 29, 47, 43, 29, 4, 96, 47, 43, 29, 47, 101, 28]
abbrev dktX6_interpolate_2 : List UInt8 := dkwX6_interpolate_2 ++ dktX6_interpolate_3
def dkwX6_interpolate_1 : List UInt8 := [162, 0, 21, 42, 180, 0, 9, 29, 4, 96, 46, 28, 163, 0, 9, 132, 3, 1, 167, 255, 231, 29, 4, 96]
abbrev dktX6_interpolate_1 : List UInt8 := dkwX6_interpolate_1 ++ dktX6_interpolate_2
def dkwX6_interpolate_0 : List UInt8 := [28, 42, 180, 0, 9, 3, 46, 162, 0, 7, 43, 3, 47, 173, 3, 62, 29, 4, 96, 42, 180, 0, 28]
abbrev dktX6_interpolate_0 : List UInt8 := dkwX6_interpolate_0 ++ dktX6_interpolate_1
theorem dksX6_interpolate_0 : cX6_interpolate.data.toList.drop 0 = dktX6_interpolate_0 := by decide +kernel
theorem dksX6_interpolate_1 : cX6_interpolate.data.toList.drop 23 = dktX6_interpolate_1 := dk_seg dksX6_interpolate_0 23 rfl rfl
theorem dksX6_interpolate_2 : cX6_interpolate.data.toList.drop 47 = dktX6_interpolate_2 := dk_seg dksX6_interpolate_1 24 rfl rfl
theorem dksX6_interpolate_3 : cX6_interpolate.data.toList.drop 71 = dktX6_interpolate_3 := dk_seg dksX6_interpolate_2 24 rfl rfl
theorem dksX6_interpolate_4 : cX6_interpolate.data.toList.drop 95 = dktX6_interpolate_4 := dk_seg dksX6_interpolate_3 24 rfl rfl
theorem dX6_interpolate_0 : decode cX6_interpolate 0 = .ok (.iload_n 2, 1) := dk_28 (dk_at dksX6_interpolate_0 0 rfl rfl)
theorem dX6_interpolate_1 : decode cX6_interpolate 1 = .ok (.aload_n 0, 1) := dk_42 (dk_at dksX6_interpolate_0 1 rfl rfl)
theorem dX6_interpolate_2 : decode cX6_interpolate 2 = .ok (.getfield 9, 3) := dk_180 0 9 (dk_at dksX6_interpolate_0 2 rfl rfl)
theorem dX6_interpolate_5 : decode cX6_interpolate 5 = .ok (.iconst 0, 1) := dk_3 (dk_at dksX6_interpolate_0 5 rfl rfl)
theorem dX6_interpolate_6 : decode cX6_interpolate 6 = .ok (.iaload, 1) := dk_46 (dk_at dksX6_interpolate_0 6 rfl rfl)
theorem dX6_interpolate_7 : decode cX6_interpolate 7 = .ok (.if_icmp .ge 7, 3) := dk_162 0 7 (dk_at dksX6_interpolate_0 7 rfl rfl)
theorem dX6_interpolate_10 : decode cX6_interpolate 10 = .ok (.aload_n 1, 1) := dk_43 (dk_at dksX6_interpolate_0 10 rfl rfl)
theorem dX6_interpolate_11 : decode cX6_interpolate 11 = .ok (.iconst 0, 1) := dk_3 (dk_at dksX6_interpolate_0 11 rfl rfl)
theorem dX6_interpolate_12 : decode cX6_interpolate 12 = .ok (.laload, 1) := dk_47 (dk_at dksX6_interpolate_0 12 rfl rfl)
theorem dX6_interpolate_13 : decode cX6_interpolate 13 = .ok (.lreturn, 1) := dk_173 (dk_at dksX6_interpolate_0 13 rfl rfl)
theorem dX6_interpolate_14 : decode cX6_interpolate 14 = .ok (.iconst 0, 1) := dk_3 (dk_at dksX6_interpolate_0 14 rfl rfl)
theorem dX6_interpolate_15 : decode cX6_interpolate 15 = .ok (.istore_n 3, 1) := dk_62 (dk_at dksX6_interpolate_0 15 rfl rfl)
theorem dX6_interpolate_16 : decode cX6_interpolate 16 = .ok (.iload_n 3, 1) := dk_29 (dk_at dksX6_interpolate_0 16 rfl rfl)
theorem dX6_interpolate_17 : decode cX6_interpolate 17 = .ok (.iconst 1, 1) := dk_4 (dk_at dksX6_interpolate_0 17 rfl rfl)
theorem dX6_interpolate_18 : decode cX6_interpolate 18 = .ok (.iadd, 1) := dk_96 (dk_at dksX6_interpolate_0 18 rfl rfl)
theorem dX6_interpolate_19 : decode cX6_interpolate 19 = .ok (.aload_n 0, 1) := dk_42 (dk_at dksX6_interpolate_0 19 rfl rfl)
theorem dX6_interpolate_20 : decode cX6_interpolate 20 = .ok (.getfield 28, 3) := dk_180 0 28 (dk_at dksX6_interpolate_0 20 rfl rfl)
theorem dX6_interpolate_23 : decode cX6_interpolate 23 = .ok (.if_icmp .ge 21, 3) := dk_162 0 21 (dk_at dksX6_interpolate_1 0 rfl rfl)
theorem dX6_interpolate_26 : decode cX6_interpolate 26 = .ok (.aload_n 0, 1) := dk_42 (dk_at dksX6_interpolate_1 3 rfl rfl)
theorem dX6_interpolate_27 : decode cX6_interpolate 27 = .ok (.getfield 9, 3) := dk_180 0 9 (dk_at dksX6_interpolate_1 4 rfl rfl)
theorem dX6_interpolate_30 : decode cX6_interpolate 30 = .ok (.iload_n 3, 1) := dk_29 (dk_at dksX6_interpolate_1 7 rfl rfl)
theorem dX6_interpolate_31 : decode cX6_interpolate 31 = .ok (.iconst 1, 1) := dk_4 (dk_at dksX6_interpolate_1 8 rfl rfl)
theorem dX6_interpolate_32 : decode cX6_interpolate 32 = .ok (.iadd, 1) := dk_96 (dk_at dksX6_interpolate_1 9 rfl rfl)
theorem dX6_interpolate_33 : decode cX6_interpolate 33 = .ok (.iaload, 1) := dk_46 (dk_at dksX6_interpolate_1 10 rfl rfl)
theorem dX6_interpolate_34 : decode cX6_interpolate 34 = .ok (.iload_n 2, 1) := dk_28 (dk_at dksX6_interpolate_1 11 rfl rfl)
theorem dX6_interpolate_35 : decode cX6_interpolate 35 = .ok (.if_icmp .gt 9, 3) := dk_163 0 9 (dk_at dksX6_interpolate_1 12 rfl rfl)
theorem dX6_interpolate_38 : decode cX6_interpolate 38 = .ok (.iinc 3 1, 3) := dk_132 3 1 (dk_at dksX6_interpolate_1 15 rfl rfl)
theorem dX6_interpolate_41 : decode cX6_interpolate 41 = .ok (.goto (-25), 3) := dk_167 255 231 (dk_at dksX6_interpolate_1 18 rfl rfl)
theorem dX6_interpolate_44 : decode cX6_interpolate 44 = .ok (.iload_n 3, 1) := dk_29 (dk_at dksX6_interpolate_1 21 rfl rfl)
theorem dX6_interpolate_45 : decode cX6_interpolate 45 = .ok (.iconst 1, 1) := dk_4 (dk_at dksX6_interpolate_1 22 rfl rfl)
theorem dX6_interpolate_46 : decode cX6_interpolate 46 = .ok (.iadd, 1) := dk_96 (dk_at dksX6_interpolate_1 23 rfl rfl)
theorem dX6_interpolate_47 : decode cX6_interpolate 47 = .ok (.aload_n 0, 1) := dk_42 (dk_at dksX6_interpolate_2 0 rfl rfl)
theorem dX6_interpolate_48 : decode cX6_interpolate 48 = .ok (.getfield 28, 3) := dk_180 0 28 (dk_at dksX6_interpolate_2 1 rfl rfl)
theorem dX6_interpolate_51 : decode cX6_interpolate 51 = .ok (.if_icmp .ne 7, 3) := dk_160 0 7 (dk_at dksX6_interpolate_2 4 rfl rfl)
theorem dX6_interpolate_54 : decode cX6_interpolate 54 = .ok (.aload_n 1, 1) := dk_43 (dk_at dksX6_interpolate_2 7 rfl rfl)
theorem dX6_interpolate_55 : decode cX6_interpolate 55 = .ok (.iload_n 3, 1) := dk_29 (dk_at dksX6_interpolate_2 8 rfl rfl)
theorem dX6_interpolate_56 : decode cX6_interpolate 56 = .ok (.laload, 1) := dk_47 (dk_at dksX6_interpolate_2 9 rfl rfl)
theorem dX6_interpolate_57 : decode cX6_interpolate 57 = .ok (.lreturn, 1) := dk_173 (dk_at dksX6_interpolate_2 10 rfl rfl)
theorem dX6_interpolate_58 : decode cX6_interpolate 58 = .ok (.aload_n 1, 1) := dk_43 (dk_at dksX6_interpolate_2 11 rfl rfl)
theorem dX6_interpolate_59 : decode cX6_interpolate 59 = .ok (.iload_n 3, 1) := dk_29 (dk_at dksX6_interpolate_2 12 rfl rfl)
theorem dX6_interpolate_60 : decode cX6_interpolate 60 = .ok (.laload, 1) := dk_47 (dk_at dksX6_interpolate_2 13 rfl rfl)
theorem dX6_interpolate_61 : decode cX6_interpolate 61 = .ok (.aload_n 1, 1) := dk_43 (dk_at dksX6_interpolate_2 14 rfl rfl)
theorem dX6_interpolate_62 : decode cX6_interpolate 62 = .ok (.iload_n 3, 1) := dk_29 (dk_at dksX6_interpolate_2 15 rfl rfl)
theorem dX6_interpolate_63 : decode cX6_interpolate 63 = .ok (.iconst 1, 1) := dk_4 (dk_at dksX6_interpolate_2 16 rfl rfl)
theorem dX6_interpolate_64 : decode cX6_interpolate 64 = .ok (.iadd, 1) := dk_96 (dk_at dksX6_interpolate_2 17 rfl rfl)
theorem dX6_interpolate_65 : decode cX6_interpolate 65 = .ok (.laload, 1) := dk_47 (dk_at dksX6_interpolate_2 18 rfl rfl)
theorem dX6_interpolate_66 : decode cX6_interpolate 66 = .ok (.aload_n 1, 1) := dk_43 (dk_at dksX6_interpolate_2 19 rfl rfl)
theorem dX6_interpolate_67 : decode cX6_interpolate 67 = .ok (.iload_n 3, 1) := dk_29 (dk_at dksX6_interpolate_2 20 rfl rfl)
theorem dX6_interpolate_68 : decode cX6_interpolate 68 = .ok (.laload, 1) := dk_47 (dk_at dksX6_interpolate_2 21 rfl rfl)
theorem dX6_interpolate_69 : decode cX6_interpolate 69 = .ok (.lsub, 1) := dk_101 (dk_at dksX6_interpolate_2 22 rfl rfl)
theorem dX6_interpolate_70 : decode cX6_interpolate 70 = .ok (.iload_n 2, 1) := dk_28 (dk_at dksX6_interpolate_2 23 rfl rfl)
theorem dX6_interpolate_71 : decode cX6_interpolate 71 = .ok (.aload_n 0, 1) := dk_42 (dk_at dksX6_interpolate_3 0 rfl rfl)
theorem dX6_interpolate_72 : decode cX6_interpolate 72 = .ok (.getfield 9, 3) := dk_180 0 9 (dk_at dksX6_interpolate_3 1 rfl rfl)
theorem dX6_interpolate_75 : decode cX6_interpolate 75 = .ok (.iload_n 3, 1) := dk_29 (dk_at dksX6_interpolate_3 4 rfl rfl)
theorem dX6_interpolate_76 : decode cX6_interpolate 76 = .ok (.iaload, 1) := dk_46 (dk_at dksX6_interpolate_3 5 rfl rfl)
theorem dX6_interpolate_77 : decode cX6_interpolate 77 = .ok (.isub, 1) := dk_100 (dk_at dksX6_interpolate_3 6 rfl rfl)
theorem dX6_interpolate_78 : decode cX6_interpolate 78 = .ok (.i2l, 1) := dk_133 (dk_at dksX6_interpolate_3 7 rfl rfl)
theorem dX6_interpolate_79 : decode cX6_interpolate 79 = .ok (.lmul, 1) := dk_105 (dk_at dksX6_interpolate_3 8 rfl rfl)
theorem dX6_interpolate_80 : decode cX6_interpolate 80 = .ok (.aload_n 0, 1) := dk_42 (dk_at dksX6_interpolate_3 9 rfl rfl)
theorem dX6_interpolate_81 : decode cX6_interpolate 81 = .ok (.getfield 9, 3) := dk_180 0 9 (dk_at dksX6_interpolate_3 10 rfl rfl)
theorem dX6_interpolate_84 : decode cX6_interpolate 84 = .ok (.iload_n 3, 1) := dk_29 (dk_at dksX6_interpolate_3 13 rfl rfl)
theorem dX6_interpolate_85 : decode cX6_interpolate 85 = .ok (.iconst 1, 1) := dk_4 (dk_at dksX6_interpolate_3 14 rfl rfl)
theorem dX6_interpolate_86 : decode cX6_interpolate 86 = .ok (.iadd, 1) := dk_96 (dk_at dksX6_interpolate_3 15 rfl rfl)
theorem dX6_interpolate_87 : decode cX6_interpolate 87 = .ok (.iaload, 1) := dk_46 (dk_at dksX6_interpolate_3 16 rfl rfl)
theorem dX6_interpolate_88 : decode cX6_interpolate 88 = .ok (.aload_n 0, 1) := dk_42 (dk_at dksX6_interpolate_3 17 rfl rfl)
theorem dX6_interpolate_89 : decode cX6_interpolate 89 = .ok (.getfield 9, 3) := dk_180 0 9 (dk_at dksX6_interpolate_3 18 rfl rfl)
theorem dX6_interpolate_92 : decode cX6_interpolate 92 = .ok (.iload_n 3, 1) := dk_29 (dk_at dksX6_interpolate_3 21 rfl rfl)
theorem dX6_interpolate_93 : decode cX6_interpolate 93 = .ok (.iaload, 1) := dk_46 (dk_at dksX6_interpolate_3 22 rfl rfl)
theorem dX6_interpolate_94 : decode cX6_interpolate 94 = .ok (.isub, 1) := dk_100 (dk_at dksX6_interpolate_3 23 rfl rfl)
theorem dX6_interpolate_95 : decode cX6_interpolate 95 = .ok (.i2l, 1) := dk_133 (dk_at dksX6_interpolate_4 0 rfl rfl)
theorem dX6_interpolate_96 : decode cX6_interpolate 96 = .ok (.ldiv, 1) := dk_109 (dk_at dksX6_interpolate_4 1 rfl rfl)
theorem dX6_interpolate_97 : decode cX6_interpolate 97 = .ok (.ladd, 1) := dk_97 (dk_at dksX6_interpolate_4 2 rfl rfl)
theorem dX6_interpolate_98 : decode cX6_interpolate 98 = .ok (.lreturn, 1) := dk_173 (dk_at dksX6_interpolate_4 3 rfl rfl)
abbrev cX6_reactance : ByteArray := prog_17_method_4_code
def yX6_reactance : MethodName := ⟨RX6, "reactance", "(I)J"⟩
def dkwX6_reactance_0 : List UInt8 := [42, 42, 180, 0, 19, 27, 182, 0, 32, 173]
abbrev dktX6_reactance_0 : List UInt8 := dkwX6_reactance_0 ++ []
theorem dksX6_reactance_0 : cX6_reactance.data.toList.drop 0 = dktX6_reactance_0 := by decide +kernel
theorem dX6_reactance_0 : decode cX6_reactance 0 = .ok (.aload_n 0, 1) := dk_42 (dk_at dksX6_reactance_0 0 rfl rfl)
theorem dX6_reactance_1 : decode cX6_reactance 1 = .ok (.aload_n 0, 1) := dk_42 (dk_at dksX6_reactance_0 1 rfl rfl)
theorem dX6_reactance_2 : decode cX6_reactance 2 = .ok (.getfield 19, 3) := dk_180 0 19 (dk_at dksX6_reactance_0 2 rfl rfl)
theorem dX6_reactance_5 : decode cX6_reactance 5 = .ok (.iload_n 1, 1) := dk_27 (dk_at dksX6_reactance_0 5 rfl rfl)
theorem dX6_reactance_6 : decode cX6_reactance 6 = .ok (.invokevirtual 32, 3) := dk_182 0 32 (dk_at dksX6_reactance_0 6 rfl rfl)
theorem dX6_reactance_9 : decode cX6_reactance 9 = .ok (.lreturn, 1) := dk_173 (dk_at dksX6_reactance_0 9 rfl rfl)
abbrev cX6_bandOf : ByteArray := prog_17_method_5_code
def yX6_bandOf : MethodName := ⟨RX6, "bandOf", "(I)I"⟩
def dkwX6_bandOf_1 : List UInt8 := [184, 0, 39, 153, 0, 5, 28, 172, 132, 2, 1, 167, 255, 224, 16, 254, 172]
abbrev dktX6_bandOf_1 : List UInt8 := dkwX6_bandOf_1 ++ []
def dkwX6_bandOf_0 : List UInt8 := [3, 61, 28, 42, 180, 0, 36, 162, 0, 30, 27, 42, 180, 0, 22, 28, 46, 42, 180, 0, 25, 28, 46]
abbrev dktX6_bandOf_0 : List UInt8 := dkwX6_bandOf_0 ++ dktX6_bandOf_1
theorem dksX6_bandOf_0 : cX6_bandOf.data.toList.drop 0 = dktX6_bandOf_0 := by decide +kernel
theorem dksX6_bandOf_1 : cX6_bandOf.data.toList.drop 23 = dktX6_bandOf_1 := dk_seg dksX6_bandOf_0 23 rfl rfl
theorem dX6_bandOf_0 : decode cX6_bandOf 0 = .ok (.iconst 0, 1) := dk_3 (dk_at dksX6_bandOf_0 0 rfl rfl)
theorem dX6_bandOf_1 : decode cX6_bandOf 1 = .ok (.istore_n 2, 1) := dk_61 (dk_at dksX6_bandOf_0 1 rfl rfl)
theorem dX6_bandOf_2 : decode cX6_bandOf 2 = .ok (.iload_n 2, 1) := dk_28 (dk_at dksX6_bandOf_0 2 rfl rfl)
theorem dX6_bandOf_3 : decode cX6_bandOf 3 = .ok (.aload_n 0, 1) := dk_42 (dk_at dksX6_bandOf_0 3 rfl rfl)
theorem dX6_bandOf_4 : decode cX6_bandOf 4 = .ok (.getfield 36, 3) := dk_180 0 36 (dk_at dksX6_bandOf_0 4 rfl rfl)
theorem dX6_bandOf_7 : decode cX6_bandOf 7 = .ok (.if_icmp .ge 30, 3) := dk_162 0 30 (dk_at dksX6_bandOf_0 7 rfl rfl)
theorem dX6_bandOf_10 : decode cX6_bandOf 10 = .ok (.iload_n 1, 1) := dk_27 (dk_at dksX6_bandOf_0 10 rfl rfl)
theorem dX6_bandOf_11 : decode cX6_bandOf 11 = .ok (.aload_n 0, 1) := dk_42 (dk_at dksX6_bandOf_0 11 rfl rfl)
theorem dX6_bandOf_12 : decode cX6_bandOf 12 = .ok (.getfield 22, 3) := dk_180 0 22 (dk_at dksX6_bandOf_0 12 rfl rfl)
theorem dX6_bandOf_15 : decode cX6_bandOf 15 = .ok (.iload_n 2, 1) := dk_28 (dk_at dksX6_bandOf_0 15 rfl rfl)
theorem dX6_bandOf_16 : decode cX6_bandOf 16 = .ok (.iaload, 1) := dk_46 (dk_at dksX6_bandOf_0 16 rfl rfl)
theorem dX6_bandOf_17 : decode cX6_bandOf 17 = .ok (.aload_n 0, 1) := dk_42 (dk_at dksX6_bandOf_0 17 rfl rfl)
theorem dX6_bandOf_18 : decode cX6_bandOf 18 = .ok (.getfield 25, 3) := dk_180 0 25 (dk_at dksX6_bandOf_0 18 rfl rfl)
theorem dX6_bandOf_21 : decode cX6_bandOf 21 = .ok (.iload_n 2, 1) := dk_28 (dk_at dksX6_bandOf_0 21 rfl rfl)
theorem dX6_bandOf_22 : decode cX6_bandOf 22 = .ok (.iaload, 1) := dk_46 (dk_at dksX6_bandOf_0 22 rfl rfl)
theorem dX6_bandOf_23 : decode cX6_bandOf 23 = .ok (.invokestatic 39, 3) := dk_184 0 39 (dk_at dksX6_bandOf_1 0 rfl rfl)
theorem dX6_bandOf_26 : decode cX6_bandOf 26 = .ok (.ifCond .eq 5, 3) := dk_153 0 5 (dk_at dksX6_bandOf_1 3 rfl rfl)
theorem dX6_bandOf_29 : decode cX6_bandOf 29 = .ok (.iload_n 2, 1) := dk_28 (dk_at dksX6_bandOf_1 6 rfl rfl)
theorem dX6_bandOf_30 : decode cX6_bandOf 30 = .ok (.ireturn, 1) := dk_172 (dk_at dksX6_bandOf_1 7 rfl rfl)
theorem dX6_bandOf_31 : decode cX6_bandOf 31 = .ok (.iinc 2 1, 3) := dk_132 2 1 (dk_at dksX6_bandOf_1 8 rfl rfl)
theorem dX6_bandOf_34 : decode cX6_bandOf 34 = .ok (.goto (-32), 3) := dk_167 255 224 (dk_at dksX6_bandOf_1 11 rfl rfl)
theorem dX6_bandOf_37 : decode cX6_bandOf 37 = .ok (.bipush (-2), 2) := dk_16 254 (dk_at dksX6_bandOf_1 14 rfl rfl)
theorem dX6_bandOf_39 : decode cX6_bandOf 39 = .ok (.ireturn, 1) := dk_172 (dk_at dksX6_bandOf_1 16 rfl rfl)
theorem q103 : (Jvm.Cond.initialized "AntennaTuner$Tuner") ∈ lw_all := lw_g (lw_at lw_m1 10 rfl) rfl
theorem q346 : (Jvm.Cond.instantiable "AntennaTuner$Tuner" (13 : Nat)) ∈ lw_all := lw_g (lw_at lw_m2 13 rfl) rfl
theorem q348 : (Jvm.Cond.instanceMethod ({ cls := "AntennaTuner$Tuner", name := "<init>", desc := "()V" } : Jvm.MethodName)) ∈ lw_all := lw_g (lw_at lw_m2 15 rfl) rfl
theorem q349 : (Jvm.Cond.code ({ cls := "AntennaTuner$Tuner", name := "<init>", desc := "()V" } : Jvm.MethodName) prog_17_method_1_code (1 : Nat) (Option.none : Option Jvm.ClassFile.FieldType)) ∈ lw_all := lw_g (lw_at lw_m2 16 rfl) rfl
theorem q350 : (Jvm.Cond.methodLink "AntennaTuner$Tuner" (3 : Nat) ({ cls := "java/lang/Object", name := "<init>", desc := "()V" } : Jvm.MethodName)) ∈ lw_all := lw_g (lw_at lw_m2 17 rfl) rfl
theorem q365 : (Jvm.Cond.fieldLink "AntennaTuner$Tuner" (9 : Nat) "AntennaTuner$Tuner" "frequencies" "[I") ∈ lw_all := lw_g (lw_at lw_m2 32 rfl) rfl
theorem q368 : (Jvm.Cond.fieldLink "AntennaTuner$Tuner" (15 : Nat) "AntennaTuner$Tuner" "resistances" "[J") ∈ lw_all := lw_g (lw_at lw_m2 35 rfl) rfl
theorem q370 : (Jvm.Cond.fieldLink "AntennaTuner$Tuner" (19 : Nat) "AntennaTuner$Tuner" "reactances" "[J") ∈ lw_all := lw_g (lw_at lw_m2 37 rfl) rfl
theorem q372 : (Jvm.Cond.fieldLink "AntennaTuner$Tuner" (28 : Nat) "AntennaTuner$Tuner" "points" "I") ∈ lw_all := lw_g (lw_at lw_m2 39 rfl) rfl
theorem q375 : (Jvm.Cond.fieldLink "AntennaTuner$Tuner" (22 : Nat) "AntennaTuner$Tuner" "bandFrom" "[I") ∈ lw_all := lw_g (lw_at lw_m2 42 rfl) rfl
theorem q378 : (Jvm.Cond.fieldLink "AntennaTuner$Tuner" (25 : Nat) "AntennaTuner$Tuner" "bandTo" "[I") ∈ lw_all := lw_g (lw_at lw_m2 45 rfl) rfl
theorem q381 : (Jvm.Cond.fieldLink "AntennaTuner$Tuner" (36 : Nat) "AntennaTuner$Tuner" "bands" "I") ∈ lw_all := lw_g (lw_at lw_m2 48 rfl) rfl
theorem q384 : (Jvm.Cond.lays "AntennaTuner$Tuner" "AntennaTuner$Tuner" "inductance" "I") ∈ lw_all := lw_g (lw_at lw_m2 51 rfl) rfl
theorem q385 : (Jvm.Cond.soleField "AntennaTuner$Tuner" "inductance") ∈ lw_all := lw_g (lw_at lw_m2 52 rfl) rfl
theorem q386 : (Jvm.Cond.lays "AntennaTuner$Tuner" "AntennaTuner$Tuner" "quality" "I") ∈ lw_all := lw_g (lw_at lw_m2 53 rfl) rfl
theorem q387 : (Jvm.Cond.soleField "AntennaTuner$Tuner" "quality") ∈ lw_all := lw_g (lw_at lw_m2 54 rfl) rfl
theorem q388 : (Jvm.Cond.lays "AntennaTuner$Tuner" "AntennaTuner$Tuner" "capacitance" "I") ∈ lw_all := lw_g (lw_at lw_m2 55 rfl) rfl
theorem q389 : (Jvm.Cond.soleField "AntennaTuner$Tuner" "capacitance") ∈ lw_all := lw_g (lw_at lw_m2 56 rfl) rfl
theorem q390 : (Jvm.Cond.lays "AntennaTuner$Tuner" "AntennaTuner$Tuner" "power" "I") ∈ lw_all := lw_g (lw_at lw_m2 57 rfl) rfl
theorem q391 : (Jvm.Cond.soleField "AntennaTuner$Tuner" "power") ∈ lw_all := lw_g (lw_at lw_m2 58 rfl) rfl
theorem q392 : (Jvm.Cond.lays "AntennaTuner$Tuner" "AntennaTuner$Tuner" "ratedVoltage" "I") ∈ lw_all := lw_g (lw_at lw_m2 59 rfl) rfl
theorem q393 : (Jvm.Cond.soleField "AntennaTuner$Tuner" "ratedVoltage") ∈ lw_all := lw_g (lw_at lw_m2 60 rfl) rfl
theorem q394 : (Jvm.Cond.lays "AntennaTuner$Tuner" "AntennaTuner$Tuner" "greatestSwr" "I") ∈ lw_all := lw_g (lw_at lw_m2 61 rfl) rfl
theorem q395 : (Jvm.Cond.soleField "AntennaTuner$Tuner" "greatestSwr") ∈ lw_all := lw_g (lw_at lw_m2 62 rfl) rfl
theorem q396 : (Jvm.Cond.laysFinal "AntennaTuner$Tuner" "AntennaTuner$Tuner" "frequencies" "[I") ∈ lw_all := lw_g (lw_at lw_m2 63 rfl) rfl
theorem q397 : (Jvm.Cond.soleField "AntennaTuner$Tuner" "frequencies") ∈ lw_all := lw_g (lw_at lw_m2 64 rfl) rfl
theorem q398 : (Jvm.Cond.laysFinal "AntennaTuner$Tuner" "AntennaTuner$Tuner" "resistances" "[J") ∈ lw_all := lw_g (lw_at lw_m2 65 rfl) rfl
theorem q399 : (Jvm.Cond.soleField "AntennaTuner$Tuner" "resistances") ∈ lw_all := lw_g (lw_at lw_m2 66 rfl) rfl
theorem q400 : (Jvm.Cond.laysFinal "AntennaTuner$Tuner" "AntennaTuner$Tuner" "reactances" "[J") ∈ lw_all := lw_g (lw_at lw_m2 67 rfl) rfl
theorem q401 : (Jvm.Cond.soleField "AntennaTuner$Tuner" "reactances") ∈ lw_all := lw_g (lw_at lw_m2 68 rfl) rfl
theorem q402 : (Jvm.Cond.lays "AntennaTuner$Tuner" "AntennaTuner$Tuner" "points" "I") ∈ lw_all := lw_g (lw_at lw_m2 69 rfl) rfl
theorem q403 : (Jvm.Cond.soleField "AntennaTuner$Tuner" "points") ∈ lw_all := lw_g (lw_at lw_m2 70 rfl) rfl
theorem q404 : (Jvm.Cond.laysFinal "AntennaTuner$Tuner" "AntennaTuner$Tuner" "bandFrom" "[I") ∈ lw_all := lw_g (lw_at lw_m2 71 rfl) rfl
theorem q405 : (Jvm.Cond.soleField "AntennaTuner$Tuner" "bandFrom") ∈ lw_all := lw_g (lw_at lw_m2 72 rfl) rfl
theorem q406 : (Jvm.Cond.laysFinal "AntennaTuner$Tuner" "AntennaTuner$Tuner" "bandTo" "[I") ∈ lw_all := lw_g (lw_at lw_m2 73 rfl) rfl
theorem q407 : (Jvm.Cond.soleField "AntennaTuner$Tuner" "bandTo") ∈ lw_all := lw_g (lw_at lw_m2 74 rfl) rfl
theorem q408 : (Jvm.Cond.lays "AntennaTuner$Tuner" "AntennaTuner$Tuner" "bands" "I") ∈ lw_all := lw_g (lw_at lw_m2 75 rfl) rfl
theorem q409 : (Jvm.Cond.soleField "AntennaTuner$Tuner" "bands") ∈ lw_all := lw_g (lw_at lw_m2 76 rfl) rfl
theorem q410 : (Jvm.Cond.superclass "AntennaTuner$Tuner" "java/lang/Object") ∈ lw_all := lw_g (lw_at lw_m2 77 rfl) rfl
theorem q865 : (Jvm.Cond.instanceMethod ({ cls := "AntennaTuner$Tuner", name := "resistance", desc := "(I)J" } : Jvm.MethodName)) ∈ lw_all := lw_g (lw_at lw_m4 52 rfl) rfl
theorem q866 : (Jvm.Cond.selects "AntennaTuner$Tuner" ({ cls := "AntennaTuner$Tuner", name := "resistance", desc := "(I)J" } : Jvm.MethodName) ({ cls := "AntennaTuner$Tuner", name := "resistance", desc := "(I)J" } : Jvm.MethodName)) ∈ lw_all := lw_g (lw_at lw_m4 53 rfl) rfl
theorem q867 : (Jvm.Cond.code ({ cls := "AntennaTuner$Tuner", name := "resistance", desc := "(I)J" } : Jvm.MethodName) prog_17_method_3_code (2 : Nat) (Option.some Jvm.ClassFile.FieldType.long)) ∈ lw_all := lw_g (lw_at lw_m4 54 rfl) rfl
theorem q868 : (Jvm.Cond.methodLink "AntennaTuner$Tuner" (32 : Nat) ({ cls := "AntennaTuner$Tuner", name := "interpolate", desc := "([JI)J" } : Jvm.MethodName)) ∈ lw_all := lw_g (lw_at lw_m4 55 rfl) rfl
theorem q869 : (Jvm.Cond.privateMethod ({ cls := "AntennaTuner$Tuner", name := "interpolate", desc := "([JI)J" } : Jvm.MethodName)) ∈ lw_tbl := lw_at lw_m4 56 rfl
theorem q870 : (Jvm.Cond.instanceMethod ({ cls := "AntennaTuner$Tuner", name := "interpolate", desc := "([JI)J" } : Jvm.MethodName)) ∈ lw_all := lw_g (lw_at lw_m4 57 rfl) rfl
theorem q871 : (Jvm.Cond.code ({ cls := "AntennaTuner$Tuner", name := "interpolate", desc := "([JI)J" } : Jvm.MethodName) prog_17_method_2_code (4 : Nat) (Option.some Jvm.ClassFile.FieldType.long)) ∈ lw_all := lw_g (lw_at lw_m4 58 rfl) rfl
theorem q878 : (Jvm.Cond.instanceMethod ({ cls := "AntennaTuner$Tuner", name := "reactance", desc := "(I)J" } : Jvm.MethodName)) ∈ lw_all := lw_g (lw_at lw_m4 65 rfl) rfl
theorem q879 : (Jvm.Cond.selects "AntennaTuner$Tuner" ({ cls := "AntennaTuner$Tuner", name := "reactance", desc := "(I)J" } : Jvm.MethodName) ({ cls := "AntennaTuner$Tuner", name := "reactance", desc := "(I)J" } : Jvm.MethodName)) ∈ lw_all := lw_g (lw_at lw_m4 66 rfl) rfl
theorem q880 : (Jvm.Cond.code ({ cls := "AntennaTuner$Tuner", name := "reactance", desc := "(I)J" } : Jvm.MethodName) prog_17_method_4_code (2 : Nat) (Option.some Jvm.ClassFile.FieldType.long)) ∈ lw_all := lw_g (lw_at lw_m4 67 rfl) rfl
theorem q891 : (Jvm.Cond.instanceMethod ({ cls := "AntennaTuner$Tuner", name := "bandOf", desc := "(I)I" } : Jvm.MethodName)) ∈ lw_all := lw_g (lw_at lw_m4 78 rfl) rfl
theorem q892 : (Jvm.Cond.selects "AntennaTuner$Tuner" ({ cls := "AntennaTuner$Tuner", name := "bandOf", desc := "(I)I" } : Jvm.MethodName) ({ cls := "AntennaTuner$Tuner", name := "bandOf", desc := "(I)I" } : Jvm.MethodName)) ∈ lw_all := lw_g (lw_at lw_m4 79 rfl) rfl
theorem q893 : (Jvm.Cond.code ({ cls := "AntennaTuner$Tuner", name := "bandOf", desc := "(I)I" } : Jvm.MethodName) prog_17_method_5_code (3 : Nat) (Option.some Jvm.ClassFile.FieldType.int)) ∈ lw_all := lw_g (lw_at lw_m4 80 rfl) rfl
theorem q894 : (Jvm.Cond.methodLinkNest "AntennaTuner$Tuner" (39 : Nat) ({ cls := "AntennaTuner", name := "isIn", desc := "(III)Z" } : Jvm.MethodName) "AntennaTuner") ∈ lw_tbl := lw_at lw_m4 81 rfl
theorem q994 : (Jvm.Cond.selects "AntennaTuner$Tuner" ({ cls := "java/lang/Object", name := "getClass", desc := "()Ljava/lang/Class;" } : Jvm.MethodName) ({ cls := "java/lang/Object", name := "getClass", desc := "()Ljava/lang/Class;" } : Jvm.MethodName)) ∈ lw_all := lw_g (lw_at lw_m4 181 rfl) rfl
theorem q2218 : (Jvm.Cond.castable "AntennaTuner$Tuner" "java/lang/Object") ∈ lw_tbl := lw_at lw_m9 205 rfl
theorem in_X6 : ∀ w ∈ wsX60, w ∈ lw_all := lw_in wsX60 [384, 386, 388, 390, 392, 394, 396, 398, 400, 402, 404, 406, 408] (by decide +kernel) (by decide +kernel)
/-! AntennaTuner$TextError -/
set_option maxRecDepth 100000
def RX7 : String := "AntennaTuner$TextError"
def TX7 : u_T := fun k => match k with
  | 0 => ("java/lang/Throwable", "cause", "Ljava/lang/Throwable;", false)
  | 1 => ("java/lang/Throwable", "stackTrace", "[Ljava/lang/StackTraceElement;", false)
  | 2 => ("java/lang/Throwable", "suppressedExceptions", "Ljava/util/List;", false)
  | 3 => ("java/lang/Throwable", "detailMessage", "Ljava/lang/String;", false)
  | 4 => ("java/lang/Throwable", "backtrace", "Ljava/lang/Object;", false)
  | 5 => ("java/lang/Throwable", "depth", "I", false)
  | 6 => ("AntennaTuner$TextError", "code", "I", true)
  | _ => ("AntennaTuner$TextError", "position", "I", true)
def tyX7 : Nat → FieldType := fun k => match k with
  | 0 => .object "java/lang/Throwable"
  | 1 => .array (.object "java/lang/StackTraceElement")
  | 2 => .object "java/util/List"
  | 3 => .object "java/lang/String"
  | 4 => .object "java/lang/Object"
  | 5 => .int
  | 6 => .int
  | _ => .int
abbrev wsX70 : List Cond := u_ws RX7 TX7 8
theorem nmX7 : ∀ a, a < 8 → ∀ b, b < 8 → a ≠ b → (TX7 a).2.1 ≠ (TX7 b).2.1 := by decide +kernel
theorem tyX7_ok : ∀ k, k < 8 → parseFieldDescriptor (TX7 k).2.2.1 = some (tyX7 k) := by decide +kernel
abbrev cX7_init : ByteArray := prog_16_method_1_code
def yX7_init : MethodName := ⟨RX7, "<init>", "(II)V"⟩
def dkwX7_init_0 : List UInt8 := [42, 1, 1, 3, 3, 183, 0, 1, 42, 27, 181, 0, 7, 42, 28, 181, 0, 13, 177]
abbrev dktX7_init_0 : List UInt8 := dkwX7_init_0 ++ []
theorem dksX7_init_0 : cX7_init.data.toList.drop 0 = dktX7_init_0 := by decide +kernel
theorem dX7_init_0 : decode cX7_init 0 = .ok (.aload_n 0, 1) := dk_42 (dk_at dksX7_init_0 0 rfl rfl)
theorem dX7_init_1 : decode cX7_init 1 = .ok (.aconst_null, 1) := dk_1 (dk_at dksX7_init_0 1 rfl rfl)
theorem dX7_init_2 : decode cX7_init 2 = .ok (.aconst_null, 1) := dk_1 (dk_at dksX7_init_0 2 rfl rfl)
theorem dX7_init_3 : decode cX7_init 3 = .ok (.iconst 0, 1) := dk_3 (dk_at dksX7_init_0 3 rfl rfl)
theorem dX7_init_4 : decode cX7_init 4 = .ok (.iconst 0, 1) := dk_3 (dk_at dksX7_init_0 4 rfl rfl)
theorem dX7_init_5 : decode cX7_init 5 = .ok (.invokespecial 1, 3) := dk_183 0 1 (dk_at dksX7_init_0 5 rfl rfl)
theorem dX7_init_8 : decode cX7_init 8 = .ok (.aload_n 0, 1) := dk_42 (dk_at dksX7_init_0 8 rfl rfl)
theorem dX7_init_9 : decode cX7_init 9 = .ok (.iload_n 1, 1) := dk_27 (dk_at dksX7_init_0 9 rfl rfl)
theorem dX7_init_10 : decode cX7_init 10 = .ok (.putfield 7, 3) := dk_181 0 7 (dk_at dksX7_init_0 10 rfl rfl)
theorem dX7_init_13 : decode cX7_init 13 = .ok (.aload_n 0, 1) := dk_42 (dk_at dksX7_init_0 13 rfl rfl)
theorem dX7_init_14 : decode cX7_init 14 = .ok (.iload_n 2, 1) := dk_28 (dk_at dksX7_init_0 14 rfl rfl)
theorem dX7_init_15 : decode cX7_init 15 = .ok (.putfield 13, 3) := dk_181 0 13 (dk_at dksX7_init_0 15 rfl rfl)
theorem dX7_init_18 : decode cX7_init 18 = .ok (.return_, 1) := dk_177 (dk_at dksX7_init_0 18 rfl rfl)
theorem q115 : (Jvm.Cond.initialized "AntennaTuner$TextError") ∈ lw_all := lw_g (lw_at lw_m1 22 rfl) rfl
theorem q681 : (Jvm.Cond.instantiable "AntennaTuner$TextError" (8 : Nat)) ∈ lw_all := lw_g (lw_at lw_m3 108 rfl) rfl
theorem q682 : (Jvm.Cond.castable "AntennaTuner$TextError" "AntennaTuner$TextError") ∈ lw_tbl := lw_at lw_m3 109 rfl
theorem q687 : (Jvm.Cond.selects "AntennaTuner$TextError" ({ cls := "java/lang/Throwable", name := "fillInStackTrace", desc := "(I)Ljava/lang/Throwable;" } : Jvm.MethodName) ({ cls := "java/lang/Throwable", name := "fillInStackTrace", desc := "(I)Ljava/lang/Throwable;" } : Jvm.MethodName)) ∈ lw_all := lw_g (lw_at lw_m3 114 rfl) rfl
theorem q688 : (Jvm.Cond.selects "AntennaTuner$TextError" ({ cls := "java/lang/Throwable", name := "fillInStackTrace", desc := "()Ljava/lang/Throwable;" } : Jvm.MethodName) ({ cls := "java/lang/Throwable", name := "fillInStackTrace", desc := "()Ljava/lang/Throwable;" } : Jvm.MethodName)) ∈ lw_all := lw_g (lw_at lw_m3 115 rfl) rfl
theorem q689 : (Jvm.Cond.lays "AntennaTuner$TextError" "java/lang/Throwable" "cause" "Ljava/lang/Throwable;") ∈ lw_all := lw_g (lw_at lw_m3 116 rfl) rfl
theorem q691 : (Jvm.Cond.lays "AntennaTuner$TextError" "java/lang/Throwable" "stackTrace" "[Ljava/lang/StackTraceElement;") ∈ lw_all := lw_g (lw_at lw_m3 118 rfl) rfl
theorem q693 : (Jvm.Cond.lays "AntennaTuner$TextError" "java/lang/Throwable" "suppressedExceptions" "Ljava/util/List;") ∈ lw_all := lw_g (lw_at lw_m3 120 rfl) rfl
theorem q695 : (Jvm.Cond.lays "AntennaTuner$TextError" "java/lang/Throwable" "detailMessage" "Ljava/lang/String;") ∈ lw_all := lw_g (lw_at lw_m3 122 rfl) rfl
theorem q697 : (Jvm.Cond.lays "AntennaTuner$TextError" "java/lang/Throwable" "backtrace" "Ljava/lang/Object;") ∈ lw_all := lw_g (lw_at lw_m3 124 rfl) rfl
theorem q724 : (Jvm.Cond.instanceMethod ({ cls := "AntennaTuner$TextError", name := "<init>", desc := "(II)V" } : Jvm.MethodName)) ∈ lw_all := lw_g (lw_at lw_m3 151 rfl) rfl
theorem q725 : (Jvm.Cond.code ({ cls := "AntennaTuner$TextError", name := "<init>", desc := "(II)V" } : Jvm.MethodName) prog_16_method_1_code (3 : Nat) (Option.none : Option Jvm.ClassFile.FieldType)) ∈ lw_all := lw_g (lw_at lw_m3 152 rfl) rfl
theorem q726 : (Jvm.Cond.methodLink "AntennaTuner$TextError" (1 : Nat) ({ cls := "java/lang/Exception", name := "<init>", desc := "(Ljava/lang/String;Ljava/lang/Throwable;ZZ)V" } : Jvm.MethodName)) ∈ lw_all := lw_g (lw_at lw_m3 153 rfl) rfl
theorem q732 : (Jvm.Cond.fieldLink "AntennaTuner$TextError" (7 : Nat) "AntennaTuner$TextError" "code" "I") ∈ lw_all := lw_g (lw_at lw_m3 159 rfl) rfl
theorem q734 : (Jvm.Cond.fieldLink "AntennaTuner$TextError" (13 : Nat) "AntennaTuner$TextError" "position" "I") ∈ lw_all := lw_g (lw_at lw_m3 161 rfl) rfl
theorem q741 : (Jvm.Cond.laysFinal "AntennaTuner$TextError" "AntennaTuner$TextError" "code" "I") ∈ lw_all := lw_g (lw_at lw_m3 168 rfl) rfl
theorem q742 : (Jvm.Cond.soleField "AntennaTuner$TextError" "code") ∈ lw_all := lw_g (lw_at lw_m3 169 rfl) rfl
theorem q743 : (Jvm.Cond.laysFinal "AntennaTuner$TextError" "AntennaTuner$TextError" "position" "I") ∈ lw_all := lw_g (lw_at lw_m3 170 rfl) rfl
theorem q744 : (Jvm.Cond.soleField "AntennaTuner$TextError" "position") ∈ lw_all := lw_g (lw_at lw_m3 171 rfl) rfl
theorem q749 : (Jvm.Cond.lays "AntennaTuner$TextError" "java/lang/Throwable" "depth" "I") ∈ lw_all := lw_g (lw_at lw_m3 176 rfl) rfl
theorem q752 : (Jvm.Cond.superclass "AntennaTuner$TextError" "java/lang/Exception") ∈ lw_all := lw_g (lw_at lw_m3 179 rfl) rfl
theorem q993 : (Jvm.Cond.selects "AntennaTuner$TextError" ({ cls := "java/lang/Object", name := "getClass", desc := "()Ljava/lang/Class;" } : Jvm.MethodName) ({ cls := "java/lang/Object", name := "getClass", desc := "()Ljava/lang/Class;" } : Jvm.MethodName)) ∈ lw_all := lw_g (lw_at lw_m4 180 rfl) rfl
theorem q1464 : (Jvm.Cond.selects "AntennaTuner$TextError" ({ cls := "java/lang/Throwable", name := "getCause", desc := "()Ljava/lang/Throwable;" } : Jvm.MethodName) ({ cls := "java/lang/Throwable", name := "getCause", desc := "()Ljava/lang/Throwable;" } : Jvm.MethodName)) ∈ lw_all := lw_g (lw_at lw_m6 171 rfl) rfl
theorem q2221 : (Jvm.Cond.castable "AntennaTuner$TextError" "java/lang/Object") ∈ lw_tbl := lw_at lw_m9 208 rfl
theorem in_X7 : ∀ w ∈ wsX70, w ∈ lw_all := lw_in wsX70 [689, 691, 693, 695, 697, 749, 741, 743] (by decide +kernel) (by decide +kernel)
/-! AntennaTuner$State -/
set_option maxRecDepth 100000
def RX8 : String := "AntennaTuner$State"
def TX8 : u_T := fun k => match k with
  | 0 => ("AntennaTuner$State", "frequency", "I", false)
  | 1 => ("AntennaTuner$State", "settings", "I", false)
  | 2 => ("AntennaTuner$State", "heat", "I", false)
  | 3 => ("AntennaTuner$State", "isChanged", "Z", false)
  | 4 => ("AntennaTuner$State", "readings", "[I", true)
  | 5 => ("AntennaTuner$State", "fresh", "[Z", true)
  | 6 => ("AntennaTuner$State", "readingCount", "I", false)
  | _ => ("AntennaTuner$State", "memory", "Ljava/util/ArrayList;", true)
def tyX8 : Nat → FieldType := fun k => match k with
  | 0 => .int
  | 1 => .int
  | 2 => .int
  | 3 => .boolean
  | 4 => .array .int
  | 5 => .array .boolean
  | 6 => .int
  | _ => .object "java/util/ArrayList"
abbrev wsX80 : List Cond := u_ws RX8 TX8 8
theorem nmX8 : ∀ a, a < 8 → ∀ b, b < 8 → a ≠ b → (TX8 a).2.1 ≠ (TX8 b).2.1 := by decide +kernel
theorem tyX8_ok : ∀ k, k < 8 → parseFieldDescriptor (TX8 k).2.2.1 = some (tyX8 k) := by decide +kernel
abbrev cX8_init : ByteArray := prog_15_method_1_code
def yX8_init : MethodName := ⟨RX8, "<init>", "(I)V"⟩
def dkwX8_init_1 : List UInt8 := [181, 0, 24, 42, 16, 100, 188, 10, 181, 0, 28, 42, 16, 100, 188, 4, 181, 0, 32, 177]
abbrev dktX8_init_1 : List UInt8 := dkwX8_init_1 ++ []
def dkwX8_init_0 : List UInt8 := [42, 183, 0, 3, 42, 4, 181, 0, 9, 42, 187, 0, 15, 89, 16, 16, 183, 0, 17, 181, 0, 20, 42, 27]
abbrev dktX8_init_0 : List UInt8 := dkwX8_init_0 ++ dktX8_init_1
theorem dksX8_init_0 : cX8_init.data.toList.drop 0 = dktX8_init_0 := by decide +kernel
theorem dksX8_init_1 : cX8_init.data.toList.drop 24 = dktX8_init_1 := dk_seg dksX8_init_0 24 rfl rfl
theorem dX8_init_0 : decode cX8_init 0 = .ok (.aload_n 0, 1) := dk_42 (dk_at dksX8_init_0 0 rfl rfl)
theorem dX8_init_1 : decode cX8_init 1 = .ok (.invokespecial 3, 3) := dk_183 0 3 (dk_at dksX8_init_0 1 rfl rfl)
theorem dX8_init_4 : decode cX8_init 4 = .ok (.aload_n 0, 1) := dk_42 (dk_at dksX8_init_0 4 rfl rfl)
theorem dX8_init_5 : decode cX8_init 5 = .ok (.iconst 1, 1) := dk_4 (dk_at dksX8_init_0 5 rfl rfl)
theorem dX8_init_6 : decode cX8_init 6 = .ok (.putfield 9, 3) := dk_181 0 9 (dk_at dksX8_init_0 6 rfl rfl)
theorem dX8_init_9 : decode cX8_init 9 = .ok (.aload_n 0, 1) := dk_42 (dk_at dksX8_init_0 9 rfl rfl)
theorem dX8_init_10 : decode cX8_init 10 = .ok (.new 15, 3) := dk_187 0 15 (dk_at dksX8_init_0 10 rfl rfl)
theorem dX8_init_13 : decode cX8_init 13 = .ok (.dup, 1) := dk_89 (dk_at dksX8_init_0 13 rfl rfl)
theorem dX8_init_14 : decode cX8_init 14 = .ok (.bipush 16, 2) := dk_16 16 (dk_at dksX8_init_0 14 rfl rfl)
theorem dX8_init_16 : decode cX8_init 16 = .ok (.invokespecial 17, 3) := dk_183 0 17 (dk_at dksX8_init_0 16 rfl rfl)
theorem dX8_init_19 : decode cX8_init 19 = .ok (.putfield 20, 3) := dk_181 0 20 (dk_at dksX8_init_0 19 rfl rfl)
theorem dX8_init_22 : decode cX8_init 22 = .ok (.aload_n 0, 1) := dk_42 (dk_at dksX8_init_0 22 rfl rfl)
theorem dX8_init_23 : decode cX8_init 23 = .ok (.iload_n 1, 1) := dk_27 (dk_at dksX8_init_0 23 rfl rfl)
theorem dX8_init_24 : decode cX8_init 24 = .ok (.putfield 24, 3) := dk_181 0 24 (dk_at dksX8_init_1 0 rfl rfl)
theorem dX8_init_27 : decode cX8_init 27 = .ok (.aload_n 0, 1) := dk_42 (dk_at dksX8_init_1 3 rfl rfl)
theorem dX8_init_28 : decode cX8_init 28 = .ok (.bipush 100, 2) := dk_16 100 (dk_at dksX8_init_1 4 rfl rfl)
theorem dX8_init_30 : decode cX8_init 30 = .ok (.newarray .int, 2) := dk_188_10 (dk_at dksX8_init_1 6 rfl rfl)
theorem dX8_init_32 : decode cX8_init 32 = .ok (.putfield 28, 3) := dk_181 0 28 (dk_at dksX8_init_1 8 rfl rfl)
theorem dX8_init_35 : decode cX8_init 35 = .ok (.aload_n 0, 1) := dk_42 (dk_at dksX8_init_1 11 rfl rfl)
theorem dX8_init_36 : decode cX8_init 36 = .ok (.bipush 100, 2) := dk_16 100 (dk_at dksX8_init_1 12 rfl rfl)
theorem dX8_init_38 : decode cX8_init 38 = .ok (.newarray .boolean, 2) := dk_188_4 (dk_at dksX8_init_1 14 rfl rfl)
theorem dX8_init_40 : decode cX8_init 40 = .ok (.putfield 32, 3) := dk_181 0 32 (dk_at dksX8_init_1 16 rfl rfl)
theorem dX8_init_43 : decode cX8_init 43 = .ok (.return_, 1) := dk_177 (dk_at dksX8_init_1 19 rfl rfl)
abbrev cX8_init_2 : ByteArray := prog_15_method_2_code
def yX8_init_2 : MethodName := ⟨RX8, "<init>", "(LAntennaTuner$State;)V"⟩
def dkwX8_init_2_5 : List UInt8 := [182, 0, 62, 87, 132, 2, 1, 167, 255, 223, 177]
abbrev dktX8_init_2_5 : List UInt8 := dkwX8_init_2_5 ++ []
def dkwX8_init_2_4 : List UInt8 := [180, 0, 20, 182, 0, 52, 162, 0, 28, 42, 180, 0, 20, 43, 180, 0, 20, 28, 182, 0, 56, 192, 0, 60]
abbrev dktX8_init_2_4 : List UInt8 := dkwX8_init_2_4 ++ dktX8_init_2_5
def dkwX8_init_2_3 : List UInt8 := [180, 0, 32, 182, 0, 47, 192, 0, 48, 181, 0, 32, 42, 43, 180, 0, 49, 181, 0, 49, 3, 61, 28, 43]
abbrev dktX8_init_2_3 : List UInt8 := dkwX8_init_2_3 ++ dktX8_init_2_4
def dkwX8_init_2_2 : List UInt8 := [180, 0, 9, 181, 0, 9, 42, 43, 180, 0, 28, 182, 0, 42, 192, 0, 43, 181, 0, 28, 42, 43]
abbrev dktX8_init_2_2 : List UInt8 := dkwX8_init_2_2 ++ dktX8_init_2_3
def dkwX8_init_2_1 : List UInt8 := [180, 0, 24, 181, 0, 24, 42, 43, 180, 0, 36, 181, 0, 36, 42, 43, 180, 0, 39, 181, 0, 39, 42, 43]
abbrev dktX8_init_2_1 : List UInt8 := dkwX8_init_2_1 ++ dktX8_init_2_2
def dkwX8_init_2_0 : List UInt8 := [42, 183, 0, 3, 42, 4, 181, 0, 9, 42, 187, 0, 15, 89, 16, 16, 183, 0, 17, 181, 0, 20, 42, 43]
abbrev dktX8_init_2_0 : List UInt8 := dkwX8_init_2_0 ++ dktX8_init_2_1
theorem dksX8_init_2_0 : cX8_init_2.data.toList.drop 0 = dktX8_init_2_0 := by decide +kernel
theorem dksX8_init_2_1 : cX8_init_2.data.toList.drop 24 = dktX8_init_2_1 := dk_seg dksX8_init_2_0 24 rfl rfl
theorem dksX8_init_2_2 : cX8_init_2.data.toList.drop 48 = dktX8_init_2_2 := dk_seg dksX8_init_2_1 24 rfl rfl
theorem dksX8_init_2_3 : cX8_init_2.data.toList.drop 70 = dktX8_init_2_3 := dk_seg dksX8_init_2_2 22 rfl rfl
theorem dksX8_init_2_4 : cX8_init_2.data.toList.drop 94 = dktX8_init_2_4 := dk_seg dksX8_init_2_3 24 rfl rfl
theorem dksX8_init_2_5 : cX8_init_2.data.toList.drop 118 = dktX8_init_2_5 := dk_seg dksX8_init_2_4 24 rfl rfl
theorem dX8_init_2_0 : decode cX8_init_2 0 = .ok (.aload_n 0, 1) := dk_42 (dk_at dksX8_init_2_0 0 rfl rfl)
theorem dX8_init_2_1 : decode cX8_init_2 1 = .ok (.invokespecial 3, 3) := dk_183 0 3 (dk_at dksX8_init_2_0 1 rfl rfl)
theorem dX8_init_2_4 : decode cX8_init_2 4 = .ok (.aload_n 0, 1) := dk_42 (dk_at dksX8_init_2_0 4 rfl rfl)
theorem dX8_init_2_5 : decode cX8_init_2 5 = .ok (.iconst 1, 1) := dk_4 (dk_at dksX8_init_2_0 5 rfl rfl)
theorem dX8_init_2_6 : decode cX8_init_2 6 = .ok (.putfield 9, 3) := dk_181 0 9 (dk_at dksX8_init_2_0 6 rfl rfl)
theorem dX8_init_2_9 : decode cX8_init_2 9 = .ok (.aload_n 0, 1) := dk_42 (dk_at dksX8_init_2_0 9 rfl rfl)
theorem dX8_init_2_10 : decode cX8_init_2 10 = .ok (.new 15, 3) := dk_187 0 15 (dk_at dksX8_init_2_0 10 rfl rfl)
theorem dX8_init_2_13 : decode cX8_init_2 13 = .ok (.dup, 1) := dk_89 (dk_at dksX8_init_2_0 13 rfl rfl)
theorem dX8_init_2_14 : decode cX8_init_2 14 = .ok (.bipush 16, 2) := dk_16 16 (dk_at dksX8_init_2_0 14 rfl rfl)
theorem dX8_init_2_16 : decode cX8_init_2 16 = .ok (.invokespecial 17, 3) := dk_183 0 17 (dk_at dksX8_init_2_0 16 rfl rfl)
theorem dX8_init_2_19 : decode cX8_init_2 19 = .ok (.putfield 20, 3) := dk_181 0 20 (dk_at dksX8_init_2_0 19 rfl rfl)
theorem dX8_init_2_22 : decode cX8_init_2 22 = .ok (.aload_n 0, 1) := dk_42 (dk_at dksX8_init_2_0 22 rfl rfl)
theorem dX8_init_2_23 : decode cX8_init_2 23 = .ok (.aload_n 1, 1) := dk_43 (dk_at dksX8_init_2_0 23 rfl rfl)
theorem dX8_init_2_24 : decode cX8_init_2 24 = .ok (.getfield 24, 3) := dk_180 0 24 (dk_at dksX8_init_2_1 0 rfl rfl)
theorem dX8_init_2_27 : decode cX8_init_2 27 = .ok (.putfield 24, 3) := dk_181 0 24 (dk_at dksX8_init_2_1 3 rfl rfl)
theorem dX8_init_2_30 : decode cX8_init_2 30 = .ok (.aload_n 0, 1) := dk_42 (dk_at dksX8_init_2_1 6 rfl rfl)
theorem dX8_init_2_31 : decode cX8_init_2 31 = .ok (.aload_n 1, 1) := dk_43 (dk_at dksX8_init_2_1 7 rfl rfl)
theorem dX8_init_2_32 : decode cX8_init_2 32 = .ok (.getfield 36, 3) := dk_180 0 36 (dk_at dksX8_init_2_1 8 rfl rfl)
theorem dX8_init_2_35 : decode cX8_init_2 35 = .ok (.putfield 36, 3) := dk_181 0 36 (dk_at dksX8_init_2_1 11 rfl rfl)
theorem dX8_init_2_38 : decode cX8_init_2 38 = .ok (.aload_n 0, 1) := dk_42 (dk_at dksX8_init_2_1 14 rfl rfl)
theorem dX8_init_2_39 : decode cX8_init_2 39 = .ok (.aload_n 1, 1) := dk_43 (dk_at dksX8_init_2_1 15 rfl rfl)
theorem dX8_init_2_40 : decode cX8_init_2 40 = .ok (.getfield 39, 3) := dk_180 0 39 (dk_at dksX8_init_2_1 16 rfl rfl)
theorem dX8_init_2_43 : decode cX8_init_2 43 = .ok (.putfield 39, 3) := dk_181 0 39 (dk_at dksX8_init_2_1 19 rfl rfl)
theorem dX8_init_2_46 : decode cX8_init_2 46 = .ok (.aload_n 0, 1) := dk_42 (dk_at dksX8_init_2_1 22 rfl rfl)
theorem dX8_init_2_47 : decode cX8_init_2 47 = .ok (.aload_n 1, 1) := dk_43 (dk_at dksX8_init_2_1 23 rfl rfl)
theorem dX8_init_2_48 : decode cX8_init_2 48 = .ok (.getfield 9, 3) := dk_180 0 9 (dk_at dksX8_init_2_2 0 rfl rfl)
theorem dX8_init_2_51 : decode cX8_init_2 51 = .ok (.putfield 9, 3) := dk_181 0 9 (dk_at dksX8_init_2_2 3 rfl rfl)
theorem dX8_init_2_54 : decode cX8_init_2 54 = .ok (.aload_n 0, 1) := dk_42 (dk_at dksX8_init_2_2 6 rfl rfl)
theorem dX8_init_2_55 : decode cX8_init_2 55 = .ok (.aload_n 1, 1) := dk_43 (dk_at dksX8_init_2_2 7 rfl rfl)
theorem dX8_init_2_56 : decode cX8_init_2 56 = .ok (.getfield 28, 3) := dk_180 0 28 (dk_at dksX8_init_2_2 8 rfl rfl)
theorem dX8_init_2_59 : decode cX8_init_2 59 = .ok (.invokevirtual 42, 3) := dk_182 0 42 (dk_at dksX8_init_2_2 11 rfl rfl)
theorem dX8_init_2_62 : decode cX8_init_2 62 = .ok (.checkcast 43, 3) := dk_192 0 43 (dk_at dksX8_init_2_2 14 rfl rfl)
theorem dX8_init_2_65 : decode cX8_init_2 65 = .ok (.putfield 28, 3) := dk_181 0 28 (dk_at dksX8_init_2_2 17 rfl rfl)
theorem dX8_init_2_68 : decode cX8_init_2 68 = .ok (.aload_n 0, 1) := dk_42 (dk_at dksX8_init_2_2 20 rfl rfl)
theorem dX8_init_2_69 : decode cX8_init_2 69 = .ok (.aload_n 1, 1) := dk_43 (dk_at dksX8_init_2_2 21 rfl rfl)
theorem dX8_init_2_70 : decode cX8_init_2 70 = .ok (.getfield 32, 3) := dk_180 0 32 (dk_at dksX8_init_2_3 0 rfl rfl)
theorem dX8_init_2_73 : decode cX8_init_2 73 = .ok (.invokevirtual 47, 3) := dk_182 0 47 (dk_at dksX8_init_2_3 3 rfl rfl)
theorem dX8_init_2_76 : decode cX8_init_2 76 = .ok (.checkcast 48, 3) := dk_192 0 48 (dk_at dksX8_init_2_3 6 rfl rfl)
theorem dX8_init_2_79 : decode cX8_init_2 79 = .ok (.putfield 32, 3) := dk_181 0 32 (dk_at dksX8_init_2_3 9 rfl rfl)
theorem dX8_init_2_82 : decode cX8_init_2 82 = .ok (.aload_n 0, 1) := dk_42 (dk_at dksX8_init_2_3 12 rfl rfl)
theorem dX8_init_2_83 : decode cX8_init_2 83 = .ok (.aload_n 1, 1) := dk_43 (dk_at dksX8_init_2_3 13 rfl rfl)
theorem dX8_init_2_84 : decode cX8_init_2 84 = .ok (.getfield 49, 3) := dk_180 0 49 (dk_at dksX8_init_2_3 14 rfl rfl)
theorem dX8_init_2_87 : decode cX8_init_2 87 = .ok (.putfield 49, 3) := dk_181 0 49 (dk_at dksX8_init_2_3 17 rfl rfl)
theorem dX8_init_2_90 : decode cX8_init_2 90 = .ok (.iconst 0, 1) := dk_3 (dk_at dksX8_init_2_3 20 rfl rfl)
theorem dX8_init_2_91 : decode cX8_init_2 91 = .ok (.istore_n 2, 1) := dk_61 (dk_at dksX8_init_2_3 21 rfl rfl)
theorem dX8_init_2_92 : decode cX8_init_2 92 = .ok (.iload_n 2, 1) := dk_28 (dk_at dksX8_init_2_3 22 rfl rfl)
theorem dX8_init_2_93 : decode cX8_init_2 93 = .ok (.aload_n 1, 1) := dk_43 (dk_at dksX8_init_2_3 23 rfl rfl)
theorem dX8_init_2_94 : decode cX8_init_2 94 = .ok (.getfield 20, 3) := dk_180 0 20 (dk_at dksX8_init_2_4 0 rfl rfl)
theorem dX8_init_2_97 : decode cX8_init_2 97 = .ok (.invokevirtual 52, 3) := dk_182 0 52 (dk_at dksX8_init_2_4 3 rfl rfl)
theorem dX8_init_2_100 : decode cX8_init_2 100 = .ok (.if_icmp .ge 28, 3) := dk_162 0 28 (dk_at dksX8_init_2_4 6 rfl rfl)
theorem dX8_init_2_103 : decode cX8_init_2 103 = .ok (.aload_n 0, 1) := dk_42 (dk_at dksX8_init_2_4 9 rfl rfl)
theorem dX8_init_2_104 : decode cX8_init_2 104 = .ok (.getfield 20, 3) := dk_180 0 20 (dk_at dksX8_init_2_4 10 rfl rfl)
theorem dX8_init_2_107 : decode cX8_init_2 107 = .ok (.aload_n 1, 1) := dk_43 (dk_at dksX8_init_2_4 13 rfl rfl)
theorem dX8_init_2_108 : decode cX8_init_2 108 = .ok (.getfield 20, 3) := dk_180 0 20 (dk_at dksX8_init_2_4 14 rfl rfl)
theorem dX8_init_2_111 : decode cX8_init_2 111 = .ok (.iload_n 2, 1) := dk_28 (dk_at dksX8_init_2_4 17 rfl rfl)
theorem dX8_init_2_112 : decode cX8_init_2 112 = .ok (.invokevirtual 56, 3) := dk_182 0 56 (dk_at dksX8_init_2_4 18 rfl rfl)
theorem dX8_init_2_115 : decode cX8_init_2 115 = .ok (.checkcast 60, 3) := dk_192 0 60 (dk_at dksX8_init_2_4 21 rfl rfl)
theorem dX8_init_2_118 : decode cX8_init_2 118 = .ok (.invokevirtual 62, 3) := dk_182 0 62 (dk_at dksX8_init_2_5 0 rfl rfl)
theorem dX8_init_2_121 : decode cX8_init_2 121 = .ok (.pop, 1) := dk_87 (dk_at dksX8_init_2_5 3 rfl rfl)
theorem dX8_init_2_122 : decode cX8_init_2 122 = .ok (.iinc 2 1, 3) := dk_132 2 1 (dk_at dksX8_init_2_5 4 rfl rfl)
theorem dX8_init_2_125 : decode cX8_init_2 125 = .ok (.goto (-33), 3) := dk_167 255 223 (dk_at dksX8_init_2_5 7 rfl rfl)
theorem dX8_init_2_128 : decode cX8_init_2 128 = .ok (.return_, 1) := dk_177 (dk_at dksX8_init_2_5 10 rfl rfl)
abbrev cX8_setFrequency : ByteArray := prog_15_method_3_code
def yX8_setFrequency : MethodName := ⟨RX8, "setFrequency", "(I)V"⟩
def dkwX8_setFrequency_0 : List UInt8 := [42, 27, 42, 180, 0, 24, 159, 0, 7, 4, 167, 0, 4, 3, 182, 0, 66, 42, 27, 181, 0, 24, 177]
abbrev dktX8_setFrequency_0 : List UInt8 := dkwX8_setFrequency_0 ++ []
theorem dksX8_setFrequency_0 : cX8_setFrequency.data.toList.drop 0 = dktX8_setFrequency_0 := by decide +kernel
theorem dX8_setFrequency_0 : decode cX8_setFrequency 0 = .ok (.aload_n 0, 1) := dk_42 (dk_at dksX8_setFrequency_0 0 rfl rfl)
theorem dX8_setFrequency_1 : decode cX8_setFrequency 1 = .ok (.iload_n 1, 1) := dk_27 (dk_at dksX8_setFrequency_0 1 rfl rfl)
theorem dX8_setFrequency_2 : decode cX8_setFrequency 2 = .ok (.aload_n 0, 1) := dk_42 (dk_at dksX8_setFrequency_0 2 rfl rfl)
theorem dX8_setFrequency_3 : decode cX8_setFrequency 3 = .ok (.getfield 24, 3) := dk_180 0 24 (dk_at dksX8_setFrequency_0 3 rfl rfl)
theorem dX8_setFrequency_6 : decode cX8_setFrequency 6 = .ok (.if_icmp .eq 7, 3) := dk_159 0 7 (dk_at dksX8_setFrequency_0 6 rfl rfl)
theorem dX8_setFrequency_9 : decode cX8_setFrequency 9 = .ok (.iconst 1, 1) := dk_4 (dk_at dksX8_setFrequency_0 9 rfl rfl)
theorem dX8_setFrequency_10 : decode cX8_setFrequency 10 = .ok (.goto 4, 3) := dk_167 0 4 (dk_at dksX8_setFrequency_0 10 rfl rfl)
theorem dX8_setFrequency_13 : decode cX8_setFrequency 13 = .ok (.iconst 0, 1) := dk_3 (dk_at dksX8_setFrequency_0 13 rfl rfl)
theorem dX8_setFrequency_14 : decode cX8_setFrequency 14 = .ok (.invokevirtual 66, 3) := dk_182 0 66 (dk_at dksX8_setFrequency_0 14 rfl rfl)
theorem dX8_setFrequency_17 : decode cX8_setFrequency 17 = .ok (.aload_n 0, 1) := dk_42 (dk_at dksX8_setFrequency_0 17 rfl rfl)
theorem dX8_setFrequency_18 : decode cX8_setFrequency 18 = .ok (.iload_n 1, 1) := dk_27 (dk_at dksX8_setFrequency_0 18 rfl rfl)
theorem dX8_setFrequency_19 : decode cX8_setFrequency 19 = .ok (.putfield 24, 3) := dk_181 0 24 (dk_at dksX8_setFrequency_0 19 rfl rfl)
theorem dX8_setFrequency_22 : decode cX8_setFrequency 22 = .ok (.return_, 1) := dk_177 (dk_at dksX8_setFrequency_0 22 rfl rfl)
abbrev cX8_touch : ByteArray := prog_15_method_5_code
def yX8_touch : MethodName := ⟨RX8, "touch", "(Z)V"⟩
def dkwX8_touch_0 : List UInt8 := [27, 153, 0, 13, 42, 3, 181, 0, 39, 42, 4, 181, 0, 9, 177]
abbrev dktX8_touch_0 : List UInt8 := dkwX8_touch_0 ++ []
theorem dksX8_touch_0 : cX8_touch.data.toList.drop 0 = dktX8_touch_0 := by decide +kernel
theorem dX8_touch_0 : decode cX8_touch 0 = .ok (.iload_n 1, 1) := dk_27 (dk_at dksX8_touch_0 0 rfl rfl)
theorem dX8_touch_1 : decode cX8_touch 1 = .ok (.ifCond .eq 13, 3) := dk_153 0 13 (dk_at dksX8_touch_0 1 rfl rfl)
theorem dX8_touch_4 : decode cX8_touch 4 = .ok (.aload_n 0, 1) := dk_42 (dk_at dksX8_touch_0 4 rfl rfl)
theorem dX8_touch_5 : decode cX8_touch 5 = .ok (.iconst 0, 1) := dk_3 (dk_at dksX8_touch_0 5 rfl rfl)
theorem dX8_touch_6 : decode cX8_touch 6 = .ok (.putfield 39, 3) := dk_181 0 39 (dk_at dksX8_touch_0 6 rfl rfl)
theorem dX8_touch_9 : decode cX8_touch 9 = .ok (.aload_n 0, 1) := dk_42 (dk_at dksX8_touch_0 9 rfl rfl)
theorem dX8_touch_10 : decode cX8_touch 10 = .ok (.iconst 1, 1) := dk_4 (dk_at dksX8_touch_0 10 rfl rfl)
theorem dX8_touch_11 : decode cX8_touch 11 = .ok (.putfield 9, 3) := dk_181 0 9 (dk_at dksX8_touch_0 11 rfl rfl)
theorem dX8_touch_14 : decode cX8_touch 14 = .ok (.return_, 1) := dk_177 (dk_at dksX8_touch_0 14 rfl rfl)
abbrev cX8_setSettings : ByteArray := prog_15_method_4_code
def yX8_setSettings : MethodName := ⟨RX8, "setSettings", "(I)V"⟩
def dkwX8_setSettings_0 : List UInt8 := [42, 27, 42, 180, 0, 36, 159, 0, 7, 4, 167, 0, 4, 3, 182, 0, 66, 42, 27, 181, 0, 36, 177]
abbrev dktX8_setSettings_0 : List UInt8 := dkwX8_setSettings_0 ++ []
theorem dksX8_setSettings_0 : cX8_setSettings.data.toList.drop 0 = dktX8_setSettings_0 := by decide +kernel
theorem dX8_setSettings_0 : decode cX8_setSettings 0 = .ok (.aload_n 0, 1) := dk_42 (dk_at dksX8_setSettings_0 0 rfl rfl)
theorem dX8_setSettings_1 : decode cX8_setSettings 1 = .ok (.iload_n 1, 1) := dk_27 (dk_at dksX8_setSettings_0 1 rfl rfl)
theorem dX8_setSettings_2 : decode cX8_setSettings 2 = .ok (.aload_n 0, 1) := dk_42 (dk_at dksX8_setSettings_0 2 rfl rfl)
theorem dX8_setSettings_3 : decode cX8_setSettings 3 = .ok (.getfield 36, 3) := dk_180 0 36 (dk_at dksX8_setSettings_0 3 rfl rfl)
theorem dX8_setSettings_6 : decode cX8_setSettings 6 = .ok (.if_icmp .eq 7, 3) := dk_159 0 7 (dk_at dksX8_setSettings_0 6 rfl rfl)
theorem dX8_setSettings_9 : decode cX8_setSettings 9 = .ok (.iconst 1, 1) := dk_4 (dk_at dksX8_setSettings_0 9 rfl rfl)
theorem dX8_setSettings_10 : decode cX8_setSettings 10 = .ok (.goto 4, 3) := dk_167 0 4 (dk_at dksX8_setSettings_0 10 rfl rfl)
theorem dX8_setSettings_13 : decode cX8_setSettings 13 = .ok (.iconst 0, 1) := dk_3 (dk_at dksX8_setSettings_0 13 rfl rfl)
theorem dX8_setSettings_14 : decode cX8_setSettings 14 = .ok (.invokevirtual 66, 3) := dk_182 0 66 (dk_at dksX8_setSettings_0 14 rfl rfl)
theorem dX8_setSettings_17 : decode cX8_setSettings 17 = .ok (.aload_n 0, 1) := dk_42 (dk_at dksX8_setSettings_0 17 rfl rfl)
theorem dX8_setSettings_18 : decode cX8_setSettings 18 = .ok (.iload_n 1, 1) := dk_27 (dk_at dksX8_setSettings_0 18 rfl rfl)
theorem dX8_setSettings_19 : decode cX8_setSettings 19 = .ok (.putfield 36, 3) := dk_181 0 36 (dk_at dksX8_setSettings_0 19 rfl rfl)
theorem dX8_setSettings_22 : decode cX8_setSettings 22 = .ok (.return_, 1) := dk_177 (dk_at dksX8_setSettings_0 22 rfl rfl)
abbrev cX8_record : ByteArray := prog_15_method_6_code
def yX8_record : MethodName := ⟨RX8, "record", "(I)V"⟩
def dkwX8_record_3 : List UInt8 := [180, 0, 9, 84, 42, 89, 180, 0, 49, 4, 96, 181, 0, 49, 42, 3, 181, 0, 9, 177]
abbrev dktX8_record_3 : List UInt8 := dkwX8_record_3 ++ []
def dkwX8_record_2 : List UInt8 := [181, 0, 49, 42, 180, 0, 28, 42, 180, 0, 49, 27, 79, 42, 180, 0, 32, 42, 180, 0, 49, 42]
abbrev dktX8_record_2 : List UInt8 := dkwX8_record_2 ++ dktX8_record_3
def dkwX8_record_1 : List UInt8 := [42, 180, 0, 32, 4, 42, 180, 0, 32, 3, 16, 99, 184, 0, 70, 42, 89, 180, 0, 49, 4, 100]
abbrev dktX8_record_1 : List UInt8 := dkwX8_record_1 ++ dktX8_record_2
def dkwX8_record_0 : List UInt8 := [42, 180, 0, 49, 16, 100, 160, 0, 43, 42, 180, 0, 28, 4, 42, 180, 0, 28, 3, 16, 99, 184, 0, 70]
abbrev dktX8_record_0 : List UInt8 := dkwX8_record_0 ++ dktX8_record_1
theorem dksX8_record_0 : cX8_record.data.toList.drop 0 = dktX8_record_0 := by decide +kernel
theorem dksX8_record_1 : cX8_record.data.toList.drop 24 = dktX8_record_1 := dk_seg dksX8_record_0 24 rfl rfl
theorem dksX8_record_2 : cX8_record.data.toList.drop 46 = dktX8_record_2 := dk_seg dksX8_record_1 22 rfl rfl
theorem dksX8_record_3 : cX8_record.data.toList.drop 68 = dktX8_record_3 := dk_seg dksX8_record_2 22 rfl rfl
theorem dX8_record_0 : decode cX8_record 0 = .ok (.aload_n 0, 1) := dk_42 (dk_at dksX8_record_0 0 rfl rfl)
theorem dX8_record_1 : decode cX8_record 1 = .ok (.getfield 49, 3) := dk_180 0 49 (dk_at dksX8_record_0 1 rfl rfl)
theorem dX8_record_4 : decode cX8_record 4 = .ok (.bipush 100, 2) := dk_16 100 (dk_at dksX8_record_0 4 rfl rfl)
theorem dX8_record_6 : decode cX8_record 6 = .ok (.if_icmp .ne 43, 3) := dk_160 0 43 (dk_at dksX8_record_0 6 rfl rfl)
theorem dX8_record_9 : decode cX8_record 9 = .ok (.aload_n 0, 1) := dk_42 (dk_at dksX8_record_0 9 rfl rfl)
theorem dX8_record_10 : decode cX8_record 10 = .ok (.getfield 28, 3) := dk_180 0 28 (dk_at dksX8_record_0 10 rfl rfl)
theorem dX8_record_13 : decode cX8_record 13 = .ok (.iconst 1, 1) := dk_4 (dk_at dksX8_record_0 13 rfl rfl)
theorem dX8_record_14 : decode cX8_record 14 = .ok (.aload_n 0, 1) := dk_42 (dk_at dksX8_record_0 14 rfl rfl)
theorem dX8_record_15 : decode cX8_record 15 = .ok (.getfield 28, 3) := dk_180 0 28 (dk_at dksX8_record_0 15 rfl rfl)
theorem dX8_record_18 : decode cX8_record 18 = .ok (.iconst 0, 1) := dk_3 (dk_at dksX8_record_0 18 rfl rfl)
theorem dX8_record_19 : decode cX8_record 19 = .ok (.bipush 99, 2) := dk_16 99 (dk_at dksX8_record_0 19 rfl rfl)
theorem dX8_record_21 : decode cX8_record 21 = .ok (.invokestatic 70, 3) := dk_184 0 70 (dk_at dksX8_record_0 21 rfl rfl)
theorem dX8_record_24 : decode cX8_record 24 = .ok (.aload_n 0, 1) := dk_42 (dk_at dksX8_record_1 0 rfl rfl)
theorem dX8_record_25 : decode cX8_record 25 = .ok (.getfield 32, 3) := dk_180 0 32 (dk_at dksX8_record_1 1 rfl rfl)
theorem dX8_record_28 : decode cX8_record 28 = .ok (.iconst 1, 1) := dk_4 (dk_at dksX8_record_1 4 rfl rfl)
theorem dX8_record_29 : decode cX8_record 29 = .ok (.aload_n 0, 1) := dk_42 (dk_at dksX8_record_1 5 rfl rfl)
theorem dX8_record_30 : decode cX8_record 30 = .ok (.getfield 32, 3) := dk_180 0 32 (dk_at dksX8_record_1 6 rfl rfl)
theorem dX8_record_33 : decode cX8_record 33 = .ok (.iconst 0, 1) := dk_3 (dk_at dksX8_record_1 9 rfl rfl)
theorem dX8_record_34 : decode cX8_record 34 = .ok (.bipush 99, 2) := dk_16 99 (dk_at dksX8_record_1 10 rfl rfl)
theorem dX8_record_36 : decode cX8_record 36 = .ok (.invokestatic 70, 3) := dk_184 0 70 (dk_at dksX8_record_1 12 rfl rfl)
theorem dX8_record_39 : decode cX8_record 39 = .ok (.aload_n 0, 1) := dk_42 (dk_at dksX8_record_1 15 rfl rfl)
theorem dX8_record_40 : decode cX8_record 40 = .ok (.dup, 1) := dk_89 (dk_at dksX8_record_1 16 rfl rfl)
theorem dX8_record_41 : decode cX8_record 41 = .ok (.getfield 49, 3) := dk_180 0 49 (dk_at dksX8_record_1 17 rfl rfl)
theorem dX8_record_44 : decode cX8_record 44 = .ok (.iconst 1, 1) := dk_4 (dk_at dksX8_record_1 20 rfl rfl)
theorem dX8_record_45 : decode cX8_record 45 = .ok (.isub, 1) := dk_100 (dk_at dksX8_record_1 21 rfl rfl)
theorem dX8_record_46 : decode cX8_record 46 = .ok (.putfield 49, 3) := dk_181 0 49 (dk_at dksX8_record_2 0 rfl rfl)
theorem dX8_record_49 : decode cX8_record 49 = .ok (.aload_n 0, 1) := dk_42 (dk_at dksX8_record_2 3 rfl rfl)
theorem dX8_record_50 : decode cX8_record 50 = .ok (.getfield 28, 3) := dk_180 0 28 (dk_at dksX8_record_2 4 rfl rfl)
theorem dX8_record_53 : decode cX8_record 53 = .ok (.aload_n 0, 1) := dk_42 (dk_at dksX8_record_2 7 rfl rfl)
theorem dX8_record_54 : decode cX8_record 54 = .ok (.getfield 49, 3) := dk_180 0 49 (dk_at dksX8_record_2 8 rfl rfl)
theorem dX8_record_57 : decode cX8_record 57 = .ok (.iload_n 1, 1) := dk_27 (dk_at dksX8_record_2 11 rfl rfl)
theorem dX8_record_58 : decode cX8_record 58 = .ok (.iastore, 1) := dk_79 (dk_at dksX8_record_2 12 rfl rfl)
theorem dX8_record_59 : decode cX8_record 59 = .ok (.aload_n 0, 1) := dk_42 (dk_at dksX8_record_2 13 rfl rfl)
theorem dX8_record_60 : decode cX8_record 60 = .ok (.getfield 32, 3) := dk_180 0 32 (dk_at dksX8_record_2 14 rfl rfl)
theorem dX8_record_63 : decode cX8_record 63 = .ok (.aload_n 0, 1) := dk_42 (dk_at dksX8_record_2 17 rfl rfl)
theorem dX8_record_64 : decode cX8_record 64 = .ok (.getfield 49, 3) := dk_180 0 49 (dk_at dksX8_record_2 18 rfl rfl)
theorem dX8_record_67 : decode cX8_record 67 = .ok (.aload_n 0, 1) := dk_42 (dk_at dksX8_record_2 21 rfl rfl)
theorem dX8_record_68 : decode cX8_record 68 = .ok (.getfield 9, 3) := dk_180 0 9 (dk_at dksX8_record_3 0 rfl rfl)
theorem dX8_record_71 : decode cX8_record 71 = .ok (.bastore, 1) := dk_84 (dk_at dksX8_record_3 3 rfl rfl)
theorem dX8_record_72 : decode cX8_record 72 = .ok (.aload_n 0, 1) := dk_42 (dk_at dksX8_record_3 4 rfl rfl)
theorem dX8_record_73 : decode cX8_record 73 = .ok (.dup, 1) := dk_89 (dk_at dksX8_record_3 5 rfl rfl)
theorem dX8_record_74 : decode cX8_record 74 = .ok (.getfield 49, 3) := dk_180 0 49 (dk_at dksX8_record_3 6 rfl rfl)
theorem dX8_record_77 : decode cX8_record 77 = .ok (.iconst 1, 1) := dk_4 (dk_at dksX8_record_3 9 rfl rfl)
theorem dX8_record_78 : decode cX8_record 78 = .ok (.iadd, 1) := dk_96 (dk_at dksX8_record_3 10 rfl rfl)
theorem dX8_record_79 : decode cX8_record 79 = .ok (.putfield 49, 3) := dk_181 0 49 (dk_at dksX8_record_3 11 rfl rfl)
theorem dX8_record_82 : decode cX8_record 82 = .ok (.aload_n 0, 1) := dk_42 (dk_at dksX8_record_3 14 rfl rfl)
theorem dX8_record_83 : decode cX8_record 83 = .ok (.iconst 0, 1) := dk_3 (dk_at dksX8_record_3 15 rfl rfl)
theorem dX8_record_84 : decode cX8_record 84 = .ok (.putfield 9, 3) := dk_181 0 9 (dk_at dksX8_record_3 16 rfl rfl)
theorem dX8_record_87 : decode cX8_record 87 = .ok (.return_, 1) := dk_177 (dk_at dksX8_record_3 19 rfl rfl)
theorem q116 : (Jvm.Cond.initialized "AntennaTuner$State") ∈ lw_all := lw_g (lw_at lw_m1 23 rfl) rfl
theorem q779 : (Jvm.Cond.instantiable "AntennaTuner$State" (8 : Nat)) ∈ lw_all := lw_g (lw_at lw_m3 206 rfl) rfl
theorem q781 : (Jvm.Cond.instanceMethod ({ cls := "AntennaTuner$State", name := "<init>", desc := "(I)V" } : Jvm.MethodName)) ∈ lw_all := lw_g (lw_at lw_m3 208 rfl) rfl
theorem q782 : (Jvm.Cond.code ({ cls := "AntennaTuner$State", name := "<init>", desc := "(I)V" } : Jvm.MethodName) prog_15_method_1_code (2 : Nat) (Option.none : Option Jvm.ClassFile.FieldType)) ∈ lw_all := lw_g (lw_at lw_m3 209 rfl) rfl
theorem q783 : (Jvm.Cond.methodLink "AntennaTuner$State" (3 : Nat) ({ cls := "java/lang/Object", name := "<init>", desc := "()V" } : Jvm.MethodName)) ∈ lw_all := lw_g (lw_at lw_m3 210 rfl) rfl
theorem q784 : (Jvm.Cond.classLink "AntennaTuner$State" (15 : Nat) "java/util/ArrayList") ∈ lw_all := lw_g (lw_at lw_m3 211 rfl) rfl
theorem q786 : (Jvm.Cond.methodLink "AntennaTuner$State" (17 : Nat) ({ cls := "java/util/ArrayList", name := "<init>", desc := "(I)V" } : Jvm.MethodName)) ∈ lw_all := lw_g (lw_at lw_m3 213 rfl) rfl
theorem q808 : (Jvm.Cond.fieldLink "AntennaTuner$State" (24 : Nat) "AntennaTuner$State" "frequency" "I") ∈ lw_all := lw_g (lw_at lw_m3 235 rfl) rfl
theorem q811 : (Jvm.Cond.fieldLink "AntennaTuner$State" (36 : Nat) "AntennaTuner$State" "settings" "I") ∈ lw_all := lw_g (lw_at lw_m3 238 rfl) rfl
theorem q813 : (Jvm.Cond.fieldLink "AntennaTuner$State" (39 : Nat) "AntennaTuner$State" "heat" "I") ∈ lw_all := lw_g (lw_at lw_m4 0 rfl) rfl
theorem q815 : (Jvm.Cond.fieldLink "AntennaTuner$State" (9 : Nat) "AntennaTuner$State" "isChanged" "Z") ∈ lw_all := lw_g (lw_at lw_m4 2 rfl) rfl
theorem q816 : (Jvm.Cond.fieldLink "AntennaTuner$State" (28 : Nat) "AntennaTuner$State" "readings" "[I") ∈ lw_all := lw_g (lw_at lw_m4 3 rfl) rfl
theorem q818 : (Jvm.Cond.fieldLink "AntennaTuner$State" (32 : Nat) "AntennaTuner$State" "fresh" "[Z") ∈ lw_all := lw_g (lw_at lw_m4 5 rfl) rfl
theorem q820 : (Jvm.Cond.fieldLink "AntennaTuner$State" (49 : Nat) "AntennaTuner$State" "readingCount" "I") ∈ lw_all := lw_g (lw_at lw_m4 7 rfl) rfl
theorem q822 : (Jvm.Cond.fieldLink "AntennaTuner$State" (20 : Nat) "AntennaTuner$State" "memory" "Ljava/util/ArrayList;") ∈ lw_all := lw_g (lw_at lw_m4 9 rfl) rfl
theorem q824 : (Jvm.Cond.lays "AntennaTuner$State" "AntennaTuner$State" "frequency" "I") ∈ lw_all := lw_g (lw_at lw_m4 11 rfl) rfl
theorem q825 : (Jvm.Cond.soleField "AntennaTuner$State" "frequency") ∈ lw_all := lw_g (lw_at lw_m4 12 rfl) rfl
theorem q826 : (Jvm.Cond.lays "AntennaTuner$State" "AntennaTuner$State" "settings" "I") ∈ lw_all := lw_g (lw_at lw_m4 13 rfl) rfl
theorem q827 : (Jvm.Cond.soleField "AntennaTuner$State" "settings") ∈ lw_all := lw_g (lw_at lw_m4 14 rfl) rfl
theorem q828 : (Jvm.Cond.lays "AntennaTuner$State" "AntennaTuner$State" "heat" "I") ∈ lw_all := lw_g (lw_at lw_m4 15 rfl) rfl
theorem q829 : (Jvm.Cond.soleField "AntennaTuner$State" "heat") ∈ lw_all := lw_g (lw_at lw_m4 16 rfl) rfl
theorem q830 : (Jvm.Cond.lays "AntennaTuner$State" "AntennaTuner$State" "isChanged" "Z") ∈ lw_all := lw_g (lw_at lw_m4 17 rfl) rfl
theorem q831 : (Jvm.Cond.soleField "AntennaTuner$State" "isChanged") ∈ lw_all := lw_g (lw_at lw_m4 18 rfl) rfl
theorem q832 : (Jvm.Cond.laysFinal "AntennaTuner$State" "AntennaTuner$State" "readings" "[I") ∈ lw_all := lw_g (lw_at lw_m4 19 rfl) rfl
theorem q833 : (Jvm.Cond.soleField "AntennaTuner$State" "readings") ∈ lw_all := lw_g (lw_at lw_m4 20 rfl) rfl
theorem q834 : (Jvm.Cond.laysFinal "AntennaTuner$State" "AntennaTuner$State" "fresh" "[Z") ∈ lw_all := lw_g (lw_at lw_m4 21 rfl) rfl
theorem q835 : (Jvm.Cond.soleField "AntennaTuner$State" "fresh") ∈ lw_all := lw_g (lw_at lw_m4 22 rfl) rfl
theorem q836 : (Jvm.Cond.lays "AntennaTuner$State" "AntennaTuner$State" "readingCount" "I") ∈ lw_all := lw_g (lw_at lw_m4 23 rfl) rfl
theorem q837 : (Jvm.Cond.soleField "AntennaTuner$State" "readingCount") ∈ lw_all := lw_g (lw_at lw_m4 24 rfl) rfl
theorem q838 : (Jvm.Cond.laysFinal "AntennaTuner$State" "AntennaTuner$State" "memory" "Ljava/util/ArrayList;") ∈ lw_all := lw_g (lw_at lw_m4 25 rfl) rfl
theorem q839 : (Jvm.Cond.soleField "AntennaTuner$State" "memory") ∈ lw_all := lw_g (lw_at lw_m4 26 rfl) rfl
theorem q840 : (Jvm.Cond.superclass "AntennaTuner$State" "java/lang/Object") ∈ lw_all := lw_g (lw_at lw_m4 27 rfl) rfl
theorem q925 : (Jvm.Cond.instanceMethod ({ cls := "AntennaTuner$State", name := "<init>", desc := "(LAntennaTuner$State;)V" } : Jvm.MethodName)) ∈ lw_all := lw_g (lw_at lw_m4 112 rfl) rfl
theorem q926 : (Jvm.Cond.code ({ cls := "AntennaTuner$State", name := "<init>", desc := "(LAntennaTuner$State;)V" } : Jvm.MethodName) prog_15_method_2_code (3 : Nat) (Option.none : Option Jvm.ClassFile.FieldType)) ∈ lw_all := lw_g (lw_at lw_m4 113 rfl) rfl
theorem q927 : (Jvm.Cond.methodLink "AntennaTuner$State" (42 : Nat) ({ cls := "[I", name := "clone", desc := "()Ljava/lang/Object;" } : Jvm.MethodName)) ∈ lw_all := lw_g (lw_at lw_m4 114 rfl) rfl
theorem q931 : (Jvm.Cond.classLink "AntennaTuner$State" (43 : Nat) "[I") ∈ lw_all := lw_g (lw_at lw_m4 118 rfl) rfl
theorem q932 : (Jvm.Cond.methodLink "AntennaTuner$State" (47 : Nat) ({ cls := "[Z", name := "clone", desc := "()Ljava/lang/Object;" } : Jvm.MethodName)) ∈ lw_all := lw_g (lw_at lw_m4 119 rfl) rfl
theorem q936 : (Jvm.Cond.classLink "AntennaTuner$State" (48 : Nat) "[Z") ∈ lw_all := lw_g (lw_at lw_m4 123 rfl) rfl
theorem q937 : (Jvm.Cond.methodLink "AntennaTuner$State" (52 : Nat) ({ cls := "java/util/ArrayList", name := "size", desc := "()I" } : Jvm.MethodName)) ∈ lw_all := lw_g (lw_at lw_m4 124 rfl) rfl
theorem q941 : (Jvm.Cond.methodLink "AntennaTuner$State" (56 : Nat) ({ cls := "java/util/ArrayList", name := "get", desc := "(I)Ljava/lang/Object;" } : Jvm.MethodName)) ∈ lw_all := lw_g (lw_at lw_m4 128 rfl) rfl
theorem q953 : (Jvm.Cond.classLink "AntennaTuner$State" (60 : Nat) "AntennaTuner$Entry") ∈ lw_all := lw_g (lw_at lw_m4 140 rfl) rfl
theorem q954 : (Jvm.Cond.methodLink "AntennaTuner$State" (62 : Nat) ({ cls := "java/util/ArrayList", name := "add", desc := "(Ljava/lang/Object;)Z" } : Jvm.MethodName)) ∈ lw_all := lw_g (lw_at lw_m4 141 rfl) rfl
theorem q992 : (Jvm.Cond.selects "AntennaTuner$State" ({ cls := "java/lang/Object", name := "getClass", desc := "()Ljava/lang/Class;" } : Jvm.MethodName) ({ cls := "java/lang/Object", name := "getClass", desc := "()Ljava/lang/Class;" } : Jvm.MethodName)) ∈ lw_all := lw_g (lw_at lw_m4 179 rfl) rfl
theorem q1024 : (Jvm.Cond.instanceMethod ({ cls := "AntennaTuner$State", name := "setFrequency", desc := "(I)V" } : Jvm.MethodName)) ∈ lw_all := lw_g (lw_at lw_m4 211 rfl) rfl
theorem q1025 : (Jvm.Cond.selects "AntennaTuner$State" ({ cls := "AntennaTuner$State", name := "setFrequency", desc := "(I)V" } : Jvm.MethodName) ({ cls := "AntennaTuner$State", name := "setFrequency", desc := "(I)V" } : Jvm.MethodName)) ∈ lw_all := lw_g (lw_at lw_m4 212 rfl) rfl
theorem q1026 : (Jvm.Cond.code ({ cls := "AntennaTuner$State", name := "setFrequency", desc := "(I)V" } : Jvm.MethodName) prog_15_method_3_code (2 : Nat) (Option.none : Option Jvm.ClassFile.FieldType)) ∈ lw_all := lw_g (lw_at lw_m4 213 rfl) rfl
theorem q1027 : (Jvm.Cond.methodLink "AntennaTuner$State" (66 : Nat) ({ cls := "AntennaTuner$State", name := "touch", desc := "(Z)V" } : Jvm.MethodName)) ∈ lw_all := lw_g (lw_at lw_m4 214 rfl) rfl
theorem q1028 : (Jvm.Cond.privateMethod ({ cls := "AntennaTuner$State", name := "touch", desc := "(Z)V" } : Jvm.MethodName)) ∈ lw_tbl := lw_at lw_m4 215 rfl
theorem q1029 : (Jvm.Cond.instanceMethod ({ cls := "AntennaTuner$State", name := "touch", desc := "(Z)V" } : Jvm.MethodName)) ∈ lw_all := lw_g (lw_at lw_m4 216 rfl) rfl
theorem q1030 : (Jvm.Cond.code ({ cls := "AntennaTuner$State", name := "touch", desc := "(Z)V" } : Jvm.MethodName) prog_15_method_5_code (2 : Nat) (Option.none : Option Jvm.ClassFile.FieldType)) ∈ lw_all := lw_g (lw_at lw_m4 217 rfl) rfl
theorem q1053 : (Jvm.Cond.instanceMethod ({ cls := "AntennaTuner$State", name := "setSettings", desc := "(I)V" } : Jvm.MethodName)) ∈ lw_all := lw_g (lw_at lw_m5 0 rfl) rfl
theorem q1054 : (Jvm.Cond.selects "AntennaTuner$State" ({ cls := "AntennaTuner$State", name := "setSettings", desc := "(I)V" } : Jvm.MethodName) ({ cls := "AntennaTuner$State", name := "setSettings", desc := "(I)V" } : Jvm.MethodName)) ∈ lw_all := lw_g (lw_at lw_m5 1 rfl) rfl
theorem q1055 : (Jvm.Cond.code ({ cls := "AntennaTuner$State", name := "setSettings", desc := "(I)V" } : Jvm.MethodName) prog_15_method_4_code (2 : Nat) (Option.none : Option Jvm.ClassFile.FieldType)) ∈ lw_all := lw_g (lw_at lw_m5 2 rfl) rfl
theorem q1217 : (Jvm.Cond.instanceMethod ({ cls := "AntennaTuner$State", name := "record", desc := "(I)V" } : Jvm.MethodName)) ∈ lw_all := lw_g (lw_at lw_m5 164 rfl) rfl
theorem q1218 : (Jvm.Cond.selects "AntennaTuner$State" ({ cls := "AntennaTuner$State", name := "record", desc := "(I)V" } : Jvm.MethodName) ({ cls := "AntennaTuner$State", name := "record", desc := "(I)V" } : Jvm.MethodName)) ∈ lw_all := lw_g (lw_at lw_m5 165 rfl) rfl
theorem q1219 : (Jvm.Cond.code ({ cls := "AntennaTuner$State", name := "record", desc := "(I)V" } : Jvm.MethodName) prog_15_method_6_code (2 : Nat) (Option.none : Option Jvm.ClassFile.FieldType)) ∈ lw_all := lw_g (lw_at lw_m5 166 rfl) rfl
theorem q1220 : (Jvm.Cond.methodLink "AntennaTuner$State" (70 : Nat) ({ cls := "java/lang/System", name := "arraycopy", desc := "(Ljava/lang/Object;ILjava/lang/Object;II)V" } : Jvm.MethodName)) ∈ lw_all := lw_g (lw_at lw_m5 167 rfl) rfl
theorem q2222 : (Jvm.Cond.castable "AntennaTuner$State" "java/lang/Object") ∈ lw_tbl := lw_at lw_m9 209 rfl
theorem in_X8 : ∀ w ∈ wsX80, w ∈ lw_all := lw_in wsX80 [824, 826, 828, 830, 832, 834, 836, 838] (by decide +kernel) (by decide +kernel)
/-! AntennaTuner$Search -/
set_option maxRecDepth 100000
def RX9 : String := "AntennaTuner$Search"
def TX9 : u_T := fun k => match k with
  | 0 => ("AntennaTuner$Search", "now", "LAntennaTuner$Setting;", false)
  | 1 => ("AntennaTuner$Search", "swr", "I", false)
  | 2 => ("AntennaTuner$Search", "evaluated", "I", false)
  | _ => ("AntennaTuner$Search", "this$0", "LAntennaTuner;", true)
def tyX9 : Nat → FieldType := fun k => match k with
  | 0 => .object "AntennaTuner$Setting"
  | 1 => .int
  | 2 => .int
  | _ => .object "AntennaTuner"
abbrev wsX90 : List Cond := u_ws RX9 TX9 4
theorem nmX9 : ∀ a, a < 4 → ∀ b, b < 4 → a ≠ b → (TX9 a).2.1 ≠ (TX9 b).2.1 := by decide +kernel
theorem tyX9_ok : ∀ k, k < 4 → parseFieldDescriptor (TX9 k).2.2.1 = some (tyX9 k) := by decide +kernel
abbrev cX9_init : ByteArray := prog_12_method_1_code
def yX9_init : MethodName := ⟨RX9, "<init>", "(LAntennaTuner;I)V"⟩
def dkwX9_init_2 : List UInt8 := [62, 167, 255, 240, 177]
abbrev dktX9_init_2 : List UInt8 := dkwX9_init_2 ++ []
def dkwX9_init_1 : List UInt8 := [182, 0, 25, 181, 0, 29, 16, 16, 62, 29, 158, 0, 18, 42, 29, 182, 0, 33, 154, 255, 247, 29, 5, 108]
abbrev dktX9_init_1 : List UInt8 := dkwX9_init_1 ++ dktX9_init_2
def dkwX9_init_0 : List UInt8 := [42, 43, 181, 0, 3, 42, 183, 0, 9, 42, 28, 184, 0, 15, 181, 0, 21, 42, 42, 42, 180, 0, 21]
abbrev dktX9_init_0 : List UInt8 := dkwX9_init_0 ++ dktX9_init_1
theorem dksX9_init_0 : cX9_init.data.toList.drop 0 = dktX9_init_0 := by decide +kernel
theorem dksX9_init_1 : cX9_init.data.toList.drop 23 = dktX9_init_1 := dk_seg dksX9_init_0 23 rfl rfl
theorem dksX9_init_2 : cX9_init.data.toList.drop 47 = dktX9_init_2 := dk_seg dksX9_init_1 24 rfl rfl
theorem dX9_init_0 : decode cX9_init 0 = .ok (.aload_n 0, 1) := dk_42 (dk_at dksX9_init_0 0 rfl rfl)
theorem dX9_init_1 : decode cX9_init 1 = .ok (.aload_n 1, 1) := dk_43 (dk_at dksX9_init_0 1 rfl rfl)
theorem dX9_init_2 : decode cX9_init 2 = .ok (.putfield 3, 3) := dk_181 0 3 (dk_at dksX9_init_0 2 rfl rfl)
theorem dX9_init_5 : decode cX9_init 5 = .ok (.aload_n 0, 1) := dk_42 (dk_at dksX9_init_0 5 rfl rfl)
theorem dX9_init_6 : decode cX9_init 6 = .ok (.invokespecial 9, 3) := dk_183 0 9 (dk_at dksX9_init_0 6 rfl rfl)
theorem dX9_init_9 : decode cX9_init 9 = .ok (.aload_n 0, 1) := dk_42 (dk_at dksX9_init_0 9 rfl rfl)
theorem dX9_init_10 : decode cX9_init 10 = .ok (.iload_n 2, 1) := dk_28 (dk_at dksX9_init_0 10 rfl rfl)
theorem dX9_init_11 : decode cX9_init 11 = .ok (.invokestatic 15, 3) := dk_184 0 15 (dk_at dksX9_init_0 11 rfl rfl)
theorem dX9_init_14 : decode cX9_init 14 = .ok (.putfield 21, 3) := dk_181 0 21 (dk_at dksX9_init_0 14 rfl rfl)
theorem dX9_init_17 : decode cX9_init 17 = .ok (.aload_n 0, 1) := dk_42 (dk_at dksX9_init_0 17 rfl rfl)
theorem dX9_init_18 : decode cX9_init 18 = .ok (.aload_n 0, 1) := dk_42 (dk_at dksX9_init_0 18 rfl rfl)
theorem dX9_init_19 : decode cX9_init 19 = .ok (.aload_n 0, 1) := dk_42 (dk_at dksX9_init_0 19 rfl rfl)
theorem dX9_init_20 : decode cX9_init 20 = .ok (.getfield 21, 3) := dk_180 0 21 (dk_at dksX9_init_0 20 rfl rfl)
theorem dX9_init_23 : decode cX9_init 23 = .ok (.invokevirtual 25, 3) := dk_182 0 25 (dk_at dksX9_init_1 0 rfl rfl)
theorem dX9_init_26 : decode cX9_init 26 = .ok (.putfield 29, 3) := dk_181 0 29 (dk_at dksX9_init_1 3 rfl rfl)
theorem dX9_init_29 : decode cX9_init 29 = .ok (.bipush 16, 2) := dk_16 16 (dk_at dksX9_init_1 6 rfl rfl)
theorem dX9_init_31 : decode cX9_init 31 = .ok (.istore_n 3, 1) := dk_62 (dk_at dksX9_init_1 8 rfl rfl)
theorem dX9_init_32 : decode cX9_init 32 = .ok (.iload_n 3, 1) := dk_29 (dk_at dksX9_init_1 9 rfl rfl)
theorem dX9_init_33 : decode cX9_init 33 = .ok (.ifCond .le 18, 3) := dk_158 0 18 (dk_at dksX9_init_1 10 rfl rfl)
theorem dX9_init_36 : decode cX9_init 36 = .ok (.aload_n 0, 1) := dk_42 (dk_at dksX9_init_1 13 rfl rfl)
theorem dX9_init_37 : decode cX9_init 37 = .ok (.iload_n 3, 1) := dk_29 (dk_at dksX9_init_1 14 rfl rfl)
theorem dX9_init_38 : decode cX9_init 38 = .ok (.invokevirtual 33, 3) := dk_182 0 33 (dk_at dksX9_init_1 15 rfl rfl)
theorem dX9_init_41 : decode cX9_init 41 = .ok (.ifCond .ne (-9), 3) := dk_154 255 247 (dk_at dksX9_init_1 18 rfl rfl)
theorem dX9_init_44 : decode cX9_init 44 = .ok (.iload_n 3, 1) := dk_29 (dk_at dksX9_init_1 21 rfl rfl)
theorem dX9_init_45 : decode cX9_init 45 = .ok (.iconst 2, 1) := dk_5 (dk_at dksX9_init_1 22 rfl rfl)
theorem dX9_init_46 : decode cX9_init 46 = .ok (.idiv, 1) := dk_108 (dk_at dksX9_init_1 23 rfl rfl)
theorem dX9_init_47 : decode cX9_init 47 = .ok (.istore_n 3, 1) := dk_62 (dk_at dksX9_init_2 0 rfl rfl)
theorem dX9_init_48 : decode cX9_init 48 = .ok (.goto (-16), 3) := dk_167 255 240 (dk_at dksX9_init_2 1 rfl rfl)
theorem dX9_init_51 : decode cX9_init 51 = .ok (.return_, 1) := dk_177 (dk_at dksX9_init_2 4 rfl rfl)
abbrev cX9_evaluate : ByteArray := prog_12_method_2_code
def yX9_evaluate : MethodName := ⟨RX9, "evaluate", "(LAntennaTuner$Setting;)I"⟩
def dkwX9_evaluate_0 : List UInt8 := [42, 89, 180, 0, 37, 4, 96, 181, 0, 37, 42, 180, 0, 3, 43, 182, 0, 40, 182, 0, 44, 172]
abbrev dktX9_evaluate_0 : List UInt8 := dkwX9_evaluate_0 ++ []
theorem dksX9_evaluate_0 : cX9_evaluate.data.toList.drop 0 = dktX9_evaluate_0 := by decide +kernel
theorem dX9_evaluate_0 : decode cX9_evaluate 0 = .ok (.aload_n 0, 1) := dk_42 (dk_at dksX9_evaluate_0 0 rfl rfl)
theorem dX9_evaluate_1 : decode cX9_evaluate 1 = .ok (.dup, 1) := dk_89 (dk_at dksX9_evaluate_0 1 rfl rfl)
theorem dX9_evaluate_2 : decode cX9_evaluate 2 = .ok (.getfield 37, 3) := dk_180 0 37 (dk_at dksX9_evaluate_0 2 rfl rfl)
theorem dX9_evaluate_5 : decode cX9_evaluate 5 = .ok (.iconst 1, 1) := dk_4 (dk_at dksX9_evaluate_0 5 rfl rfl)
theorem dX9_evaluate_6 : decode cX9_evaluate 6 = .ok (.iadd, 1) := dk_96 (dk_at dksX9_evaluate_0 6 rfl rfl)
theorem dX9_evaluate_7 : decode cX9_evaluate 7 = .ok (.putfield 37, 3) := dk_181 0 37 (dk_at dksX9_evaluate_0 7 rfl rfl)
theorem dX9_evaluate_10 : decode cX9_evaluate 10 = .ok (.aload_n 0, 1) := dk_42 (dk_at dksX9_evaluate_0 10 rfl rfl)
theorem dX9_evaluate_11 : decode cX9_evaluate 11 = .ok (.getfield 3, 3) := dk_180 0 3 (dk_at dksX9_evaluate_0 11 rfl rfl)
theorem dX9_evaluate_14 : decode cX9_evaluate 14 = .ok (.aload_n 1, 1) := dk_43 (dk_at dksX9_evaluate_0 14 rfl rfl)
theorem dX9_evaluate_15 : decode cX9_evaluate 15 = .ok (.invokevirtual 40, 3) := dk_182 0 40 (dk_at dksX9_evaluate_0 15 rfl rfl)
theorem dX9_evaluate_18 : decode cX9_evaluate 18 = .ok (.invokevirtual 44, 3) := dk_182 0 44 (dk_at dksX9_evaluate_0 18 rfl rfl)
theorem dX9_evaluate_21 : decode cX9_evaluate 21 = .ok (.ireturn, 1) := dk_172 (dk_at dksX9_evaluate_0 21 rfl rfl)
abbrev cX9_improve : ByteArray := prog_12_method_3_code
def yX9_improve : MethodName := ⟨RX9, "improve", "(I)Z"⟩
def dkwX9_improve_4 : List UInt8 := [162, 0, 7, 4, 167, 0, 4, 3, 54, 4, 42, 44, 181, 0, 21, 42, 29, 181, 0, 29, 21, 4, 172]
abbrev dktX9_improve_4 : List UInt8 := dkwX9_improve_4 ++ []
def dkwX9_improve_3 : List UInt8 := [21, 6, 29, 162, 0, 9, 25, 5, 77, 21, 6, 62, 132, 4, 1, 167, 255, 185, 29, 42, 180, 0, 29]
abbrev dktX9_improve_3 : List UInt8 := dkwX9_improve_3 ++ dktX9_improve_4
def dkwX9_improve_2 : List UInt8 := [58, 5, 25, 5, 182, 0, 58, 153, 0, 12, 42, 25, 5, 182, 0, 25, 167, 0, 5, 18, 62, 54, 6]
abbrev dktX9_improve_2 : List UInt8 := dkwX9_improve_2 ++ dktX9_improve_3
def dkwX9_improve_1 : List UInt8 := [162, 0, 64, 42, 180, 0, 3, 180, 0, 48, 21, 4, 50, 42, 180, 0, 21, 27, 185, 0, 52, 3, 0]
abbrev dktX9_improve_1 : List UInt8 := dkwX9_improve_1 ++ dktX9_improve_2
def dkwX9_improve_0 : List UInt8 := [42, 180, 0, 21, 77, 42, 180, 0, 29, 62, 3, 54, 4, 21, 4, 42, 180, 0, 3, 180, 0, 48, 190]
abbrev dktX9_improve_0 : List UInt8 := dkwX9_improve_0 ++ dktX9_improve_1
theorem dksX9_improve_0 : cX9_improve.data.toList.drop 0 = dktX9_improve_0 := by decide +kernel
theorem dksX9_improve_1 : cX9_improve.data.toList.drop 23 = dktX9_improve_1 := dk_seg dksX9_improve_0 23 rfl rfl
theorem dksX9_improve_2 : cX9_improve.data.toList.drop 46 = dktX9_improve_2 := dk_seg dksX9_improve_1 23 rfl rfl
theorem dksX9_improve_3 : cX9_improve.data.toList.drop 69 = dktX9_improve_3 := dk_seg dksX9_improve_2 23 rfl rfl
theorem dksX9_improve_4 : cX9_improve.data.toList.drop 92 = dktX9_improve_4 := dk_seg dksX9_improve_3 23 rfl rfl
theorem dX9_improve_0 : decode cX9_improve 0 = .ok (.aload_n 0, 1) := dk_42 (dk_at dksX9_improve_0 0 rfl rfl)
theorem dX9_improve_1 : decode cX9_improve 1 = .ok (.getfield 21, 3) := dk_180 0 21 (dk_at dksX9_improve_0 1 rfl rfl)
theorem dX9_improve_4 : decode cX9_improve 4 = .ok (.astore_n 2, 1) := dk_77 (dk_at dksX9_improve_0 4 rfl rfl)
theorem dX9_improve_5 : decode cX9_improve 5 = .ok (.aload_n 0, 1) := dk_42 (dk_at dksX9_improve_0 5 rfl rfl)
theorem dX9_improve_6 : decode cX9_improve 6 = .ok (.getfield 29, 3) := dk_180 0 29 (dk_at dksX9_improve_0 6 rfl rfl)
theorem dX9_improve_9 : decode cX9_improve 9 = .ok (.istore_n 3, 1) := dk_62 (dk_at dksX9_improve_0 9 rfl rfl)
theorem dX9_improve_10 : decode cX9_improve 10 = .ok (.iconst 0, 1) := dk_3 (dk_at dksX9_improve_0 10 rfl rfl)
theorem dX9_improve_11 : decode cX9_improve 11 = .ok (.istore 4, 2) := dk_54 4 (dk_at dksX9_improve_0 11 rfl rfl)
theorem dX9_improve_13 : decode cX9_improve 13 = .ok (.iload 4, 2) := dk_21 4 (dk_at dksX9_improve_0 13 rfl rfl)
theorem dX9_improve_15 : decode cX9_improve 15 = .ok (.aload_n 0, 1) := dk_42 (dk_at dksX9_improve_0 15 rfl rfl)
theorem dX9_improve_16 : decode cX9_improve 16 = .ok (.getfield 3, 3) := dk_180 0 3 (dk_at dksX9_improve_0 16 rfl rfl)
theorem dX9_improve_19 : decode cX9_improve 19 = .ok (.getfield 48, 3) := dk_180 0 48 (dk_at dksX9_improve_0 19 rfl rfl)
theorem dX9_improve_22 : decode cX9_improve 22 = .ok (.arraylength, 1) := dk_190 (dk_at dksX9_improve_0 22 rfl rfl)
theorem dX9_improve_23 : decode cX9_improve 23 = .ok (.if_icmp .ge 64, 3) := dk_162 0 64 (dk_at dksX9_improve_1 0 rfl rfl)
theorem dX9_improve_26 : decode cX9_improve 26 = .ok (.aload_n 0, 1) := dk_42 (dk_at dksX9_improve_1 3 rfl rfl)
theorem dX9_improve_27 : decode cX9_improve 27 = .ok (.getfield 3, 3) := dk_180 0 3 (dk_at dksX9_improve_1 4 rfl rfl)
theorem dX9_improve_30 : decode cX9_improve 30 = .ok (.getfield 48, 3) := dk_180 0 48 (dk_at dksX9_improve_1 7 rfl rfl)
theorem dX9_improve_33 : decode cX9_improve 33 = .ok (.iload 4, 2) := dk_21 4 (dk_at dksX9_improve_1 10 rfl rfl)
theorem dX9_improve_35 : decode cX9_improve 35 = .ok (.aaload, 1) := dk_50 (dk_at dksX9_improve_1 12 rfl rfl)
theorem dX9_improve_36 : decode cX9_improve 36 = .ok (.aload_n 0, 1) := dk_42 (dk_at dksX9_improve_1 13 rfl rfl)
theorem dX9_improve_37 : decode cX9_improve 37 = .ok (.getfield 21, 3) := dk_180 0 21 (dk_at dksX9_improve_1 14 rfl rfl)
theorem dX9_improve_40 : decode cX9_improve 40 = .ok (.iload_n 1, 1) := dk_27 (dk_at dksX9_improve_1 17 rfl rfl)
theorem dX9_improve_41 : decode cX9_improve 41 = .ok (.invokeinterface 52 3, 5) := by decide +kernel
theorem dX9_improve_46 : decode cX9_improve 46 = .ok (.astore 5, 2) := dk_58 5 (dk_at dksX9_improve_2 0 rfl rfl)
theorem dX9_improve_48 : decode cX9_improve 48 = .ok (.aload 5, 2) := dk_25 5 (dk_at dksX9_improve_2 2 rfl rfl)
theorem dX9_improve_50 : decode cX9_improve 50 = .ok (.invokevirtual 58, 3) := dk_182 0 58 (dk_at dksX9_improve_2 4 rfl rfl)
theorem dX9_improve_53 : decode cX9_improve 53 = .ok (.ifCond .eq 12, 3) := dk_153 0 12 (dk_at dksX9_improve_2 7 rfl rfl)
theorem dX9_improve_56 : decode cX9_improve 56 = .ok (.aload_n 0, 1) := dk_42 (dk_at dksX9_improve_2 10 rfl rfl)
theorem dX9_improve_57 : decode cX9_improve 57 = .ok (.aload 5, 2) := dk_25 5 (dk_at dksX9_improve_2 11 rfl rfl)
theorem dX9_improve_59 : decode cX9_improve 59 = .ok (.invokevirtual 25, 3) := dk_182 0 25 (dk_at dksX9_improve_2 13 rfl rfl)
theorem dX9_improve_62 : decode cX9_improve 62 = .ok (.goto 5, 3) := dk_167 0 5 (dk_at dksX9_improve_2 16 rfl rfl)
theorem dX9_improve_65 : decode cX9_improve 65 = .ok (.ldc 62, 2) := dk_18 62 (dk_at dksX9_improve_2 19 rfl rfl)
theorem dX9_improve_67 : decode cX9_improve 67 = .ok (.istore 6, 2) := dk_54 6 (dk_at dksX9_improve_2 21 rfl rfl)
theorem dX9_improve_69 : decode cX9_improve 69 = .ok (.iload 6, 2) := dk_21 6 (dk_at dksX9_improve_3 0 rfl rfl)
theorem dX9_improve_71 : decode cX9_improve 71 = .ok (.iload_n 3, 1) := dk_29 (dk_at dksX9_improve_3 2 rfl rfl)
theorem dX9_improve_72 : decode cX9_improve 72 = .ok (.if_icmp .ge 9, 3) := dk_162 0 9 (dk_at dksX9_improve_3 3 rfl rfl)
theorem dX9_improve_75 : decode cX9_improve 75 = .ok (.aload 5, 2) := dk_25 5 (dk_at dksX9_improve_3 6 rfl rfl)
theorem dX9_improve_77 : decode cX9_improve 77 = .ok (.astore_n 2, 1) := dk_77 (dk_at dksX9_improve_3 8 rfl rfl)
theorem dX9_improve_78 : decode cX9_improve 78 = .ok (.iload 6, 2) := dk_21 6 (dk_at dksX9_improve_3 9 rfl rfl)
theorem dX9_improve_80 : decode cX9_improve 80 = .ok (.istore_n 3, 1) := dk_62 (dk_at dksX9_improve_3 11 rfl rfl)
theorem dX9_improve_81 : decode cX9_improve 81 = .ok (.iinc 4 1, 3) := dk_132 4 1 (dk_at dksX9_improve_3 12 rfl rfl)
theorem dX9_improve_84 : decode cX9_improve 84 = .ok (.goto (-71), 3) := dk_167 255 185 (dk_at dksX9_improve_3 15 rfl rfl)
theorem dX9_improve_87 : decode cX9_improve 87 = .ok (.iload_n 3, 1) := dk_29 (dk_at dksX9_improve_3 18 rfl rfl)
theorem dX9_improve_88 : decode cX9_improve 88 = .ok (.aload_n 0, 1) := dk_42 (dk_at dksX9_improve_3 19 rfl rfl)
theorem dX9_improve_89 : decode cX9_improve 89 = .ok (.getfield 29, 3) := dk_180 0 29 (dk_at dksX9_improve_3 20 rfl rfl)
theorem dX9_improve_92 : decode cX9_improve 92 = .ok (.if_icmp .ge 7, 3) := dk_162 0 7 (dk_at dksX9_improve_4 0 rfl rfl)
theorem dX9_improve_95 : decode cX9_improve 95 = .ok (.iconst 1, 1) := dk_4 (dk_at dksX9_improve_4 3 rfl rfl)
theorem dX9_improve_96 : decode cX9_improve 96 = .ok (.goto 4, 3) := dk_167 0 4 (dk_at dksX9_improve_4 4 rfl rfl)
theorem dX9_improve_99 : decode cX9_improve 99 = .ok (.iconst 0, 1) := dk_3 (dk_at dksX9_improve_4 7 rfl rfl)
theorem dX9_improve_100 : decode cX9_improve 100 = .ok (.istore 4, 2) := dk_54 4 (dk_at dksX9_improve_4 8 rfl rfl)
theorem dX9_improve_102 : decode cX9_improve 102 = .ok (.aload_n 0, 1) := dk_42 (dk_at dksX9_improve_4 10 rfl rfl)
theorem dX9_improve_103 : decode cX9_improve 103 = .ok (.aload_n 2, 1) := dk_44 (dk_at dksX9_improve_4 11 rfl rfl)
theorem dX9_improve_104 : decode cX9_improve 104 = .ok (.putfield 21, 3) := dk_181 0 21 (dk_at dksX9_improve_4 12 rfl rfl)
theorem dX9_improve_107 : decode cX9_improve 107 = .ok (.aload_n 0, 1) := dk_42 (dk_at dksX9_improve_4 15 rfl rfl)
theorem dX9_improve_108 : decode cX9_improve 108 = .ok (.iload_n 3, 1) := dk_29 (dk_at dksX9_improve_4 16 rfl rfl)
theorem dX9_improve_109 : decode cX9_improve 109 = .ok (.putfield 29, 3) := dk_181 0 29 (dk_at dksX9_improve_4 17 rfl rfl)
theorem dX9_improve_112 : decode cX9_improve 112 = .ok (.iload 4, 2) := dk_21 4 (dk_at dksX9_improve_4 20 rfl rfl)
theorem dX9_improve_114 : decode cX9_improve 114 = .ok (.ireturn, 1) := dk_172 (dk_at dksX9_improve_4 22 rfl rfl)
abbrev cX9_check : ByteArray := prog_12_method_7_code
def yX9_check : MethodName := ⟨RX9, "check", "()V"⟩
def dkwX9_check_1 : List UInt8 := [191, 177]
abbrev dktX9_check_1 : List UInt8 := dkwX9_check_1 ++ []
def dkwX9_check_0 : List UInt8 := [42, 182, 0, 125, 42, 182, 0, 128, 167, 0, 17, 76, 187, 0, 86, 89, 42, 180, 0, 29, 43, 183, 0, 88]
abbrev dktX9_check_0 : List UInt8 := dkwX9_check_0 ++ dktX9_check_1
theorem dksX9_check_0 : cX9_check.data.toList.drop 0 = dktX9_check_0 := by decide +kernel
theorem dksX9_check_1 : cX9_check.data.toList.drop 24 = dktX9_check_1 := dk_seg dksX9_check_0 24 rfl rfl
theorem dX9_check_0 : decode cX9_check 0 = .ok (.aload_n 0, 1) := dk_42 (dk_at dksX9_check_0 0 rfl rfl)
theorem dX9_check_1 : decode cX9_check 1 = .ok (.invokevirtual 125, 3) := dk_182 0 125 (dk_at dksX9_check_0 1 rfl rfl)
theorem dX9_check_4 : decode cX9_check 4 = .ok (.aload_n 0, 1) := dk_42 (dk_at dksX9_check_0 4 rfl rfl)
theorem dX9_check_5 : decode cX9_check 5 = .ok (.invokevirtual 128, 3) := dk_182 0 128 (dk_at dksX9_check_0 5 rfl rfl)
theorem dX9_check_8 : decode cX9_check 8 = .ok (.goto 17, 3) := dk_167 0 17 (dk_at dksX9_check_0 8 rfl rfl)
theorem dX9_check_11 : decode cX9_check 11 = .ok (.astore_n 1, 1) := dk_76 (dk_at dksX9_check_0 11 rfl rfl)
theorem dX9_check_12 : decode cX9_check 12 = .ok (.new 86, 3) := dk_187 0 86 (dk_at dksX9_check_0 12 rfl rfl)
theorem dX9_check_15 : decode cX9_check 15 = .ok (.dup, 1) := dk_89 (dk_at dksX9_check_0 15 rfl rfl)
theorem dX9_check_16 : decode cX9_check 16 = .ok (.aload_n 0, 1) := dk_42 (dk_at dksX9_check_0 16 rfl rfl)
theorem dX9_check_17 : decode cX9_check 17 = .ok (.getfield 29, 3) := dk_180 0 29 (dk_at dksX9_check_0 17 rfl rfl)
theorem dX9_check_20 : decode cX9_check 20 = .ok (.aload_n 1, 1) := dk_43 (dk_at dksX9_check_0 20 rfl rfl)
theorem dX9_check_21 : decode cX9_check 21 = .ok (.invokespecial 88, 3) := dk_183 0 88 (dk_at dksX9_check_0 21 rfl rfl)
theorem dX9_check_24 : decode cX9_check 24 = .ok (.athrow, 1) := dk_191 (dk_at dksX9_check_1 0 rfl rfl)
theorem dX9_check_25 : decode cX9_check 25 = .ok (.return_, 1) := dk_177 (dk_at dksX9_check_1 1 rfl rfl)
abbrev cX9_checkSwr : ByteArray := prog_12_method_5_code
def yX9_checkSwr : MethodName := ⟨RX9, "checkSwr", "()V"⟩
def dkwX9_checkSwr_4 : List UInt8 := [180, 0, 29, 1, 183, 0, 88, 191]
abbrev dktX9_checkSwr_4 : List UInt8 := dkwX9_checkSwr_4 ++ []
def dkwX9_checkSwr_3 : List UInt8 := [180, 0, 72, 167, 0, 10, 42, 180, 0, 21, 180, 0, 78, 183, 0, 83, 191, 187, 0, 86, 89, 42]
abbrev dktX9_checkSwr_3 : List UInt8 := dkwX9_checkSwr_3 ++ dktX9_checkSwr_4
def dkwX9_checkSwr_2 : List UInt8 := [187, 0, 81, 89, 42, 42, 180, 0, 21, 180, 0, 72, 182, 0, 75, 153, 0, 13, 42, 180, 0, 21]
abbrev dktX9_checkSwr_2 : List UInt8 := dkwX9_checkSwr_2 ++ dktX9_checkSwr_3
def dkwX9_checkSwr_1 : List UInt8 := [180, 0, 72, 182, 0, 75, 154, 0, 17, 42, 42, 180, 0, 21, 180, 0, 78, 182, 0, 75, 153, 0, 42]
abbrev dktX9_checkSwr_1 : List UInt8 := dkwX9_checkSwr_1 ++ dktX9_checkSwr_2
def dkwX9_checkSwr_0 : List UInt8 := [42, 180, 0, 29, 42, 180, 0, 3, 180, 0, 63, 180, 0, 67, 163, 0, 4, 177, 42, 42, 180, 0, 21]
abbrev dktX9_checkSwr_0 : List UInt8 := dkwX9_checkSwr_0 ++ dktX9_checkSwr_1
theorem dksX9_checkSwr_0 : cX9_checkSwr.data.toList.drop 0 = dktX9_checkSwr_0 := by decide +kernel
theorem dksX9_checkSwr_1 : cX9_checkSwr.data.toList.drop 23 = dktX9_checkSwr_1 := dk_seg dksX9_checkSwr_0 23 rfl rfl
theorem dksX9_checkSwr_2 : cX9_checkSwr.data.toList.drop 46 = dktX9_checkSwr_2 := dk_seg dksX9_checkSwr_1 23 rfl rfl
theorem dksX9_checkSwr_3 : cX9_checkSwr.data.toList.drop 68 = dktX9_checkSwr_3 := dk_seg dksX9_checkSwr_2 22 rfl rfl
theorem dksX9_checkSwr_4 : cX9_checkSwr.data.toList.drop 90 = dktX9_checkSwr_4 := dk_seg dksX9_checkSwr_3 22 rfl rfl
theorem dX9_checkSwr_0 : decode cX9_checkSwr 0 = .ok (.aload_n 0, 1) := dk_42 (dk_at dksX9_checkSwr_0 0 rfl rfl)
theorem dX9_checkSwr_1 : decode cX9_checkSwr 1 = .ok (.getfield 29, 3) := dk_180 0 29 (dk_at dksX9_checkSwr_0 1 rfl rfl)
theorem dX9_checkSwr_4 : decode cX9_checkSwr 4 = .ok (.aload_n 0, 1) := dk_42 (dk_at dksX9_checkSwr_0 4 rfl rfl)
theorem dX9_checkSwr_5 : decode cX9_checkSwr 5 = .ok (.getfield 3, 3) := dk_180 0 3 (dk_at dksX9_checkSwr_0 5 rfl rfl)
theorem dX9_checkSwr_8 : decode cX9_checkSwr 8 = .ok (.getfield 63, 3) := dk_180 0 63 (dk_at dksX9_checkSwr_0 8 rfl rfl)
theorem dX9_checkSwr_11 : decode cX9_checkSwr 11 = .ok (.getfield 67, 3) := dk_180 0 67 (dk_at dksX9_checkSwr_0 11 rfl rfl)
theorem dX9_checkSwr_14 : decode cX9_checkSwr 14 = .ok (.if_icmp .gt 4, 3) := dk_163 0 4 (dk_at dksX9_checkSwr_0 14 rfl rfl)
theorem dX9_checkSwr_17 : decode cX9_checkSwr 17 = .ok (.return_, 1) := dk_177 (dk_at dksX9_checkSwr_0 17 rfl rfl)
theorem dX9_checkSwr_18 : decode cX9_checkSwr 18 = .ok (.aload_n 0, 1) := dk_42 (dk_at dksX9_checkSwr_0 18 rfl rfl)
theorem dX9_checkSwr_19 : decode cX9_checkSwr 19 = .ok (.aload_n 0, 1) := dk_42 (dk_at dksX9_checkSwr_0 19 rfl rfl)
theorem dX9_checkSwr_20 : decode cX9_checkSwr 20 = .ok (.getfield 21, 3) := dk_180 0 21 (dk_at dksX9_checkSwr_0 20 rfl rfl)
theorem dX9_checkSwr_23 : decode cX9_checkSwr 23 = .ok (.getfield 72, 3) := dk_180 0 72 (dk_at dksX9_checkSwr_1 0 rfl rfl)
theorem dX9_checkSwr_26 : decode cX9_checkSwr 26 = .ok (.invokevirtual 75, 3) := dk_182 0 75 (dk_at dksX9_checkSwr_1 3 rfl rfl)
theorem dX9_checkSwr_29 : decode cX9_checkSwr 29 = .ok (.ifCond .ne 17, 3) := dk_154 0 17 (dk_at dksX9_checkSwr_1 6 rfl rfl)
theorem dX9_checkSwr_32 : decode cX9_checkSwr 32 = .ok (.aload_n 0, 1) := dk_42 (dk_at dksX9_checkSwr_1 9 rfl rfl)
theorem dX9_checkSwr_33 : decode cX9_checkSwr 33 = .ok (.aload_n 0, 1) := dk_42 (dk_at dksX9_checkSwr_1 10 rfl rfl)
theorem dX9_checkSwr_34 : decode cX9_checkSwr 34 = .ok (.getfield 21, 3) := dk_180 0 21 (dk_at dksX9_checkSwr_1 11 rfl rfl)
theorem dX9_checkSwr_37 : decode cX9_checkSwr 37 = .ok (.getfield 78, 3) := dk_180 0 78 (dk_at dksX9_checkSwr_1 14 rfl rfl)
theorem dX9_checkSwr_40 : decode cX9_checkSwr 40 = .ok (.invokevirtual 75, 3) := dk_182 0 75 (dk_at dksX9_checkSwr_1 17 rfl rfl)
theorem dX9_checkSwr_43 : decode cX9_checkSwr 43 = .ok (.ifCond .eq 42, 3) := dk_153 0 42 (dk_at dksX9_checkSwr_1 20 rfl rfl)
theorem dX9_checkSwr_46 : decode cX9_checkSwr 46 = .ok (.new 81, 3) := dk_187 0 81 (dk_at dksX9_checkSwr_2 0 rfl rfl)
theorem dX9_checkSwr_49 : decode cX9_checkSwr 49 = .ok (.dup, 1) := dk_89 (dk_at dksX9_checkSwr_2 3 rfl rfl)
theorem dX9_checkSwr_50 : decode cX9_checkSwr 50 = .ok (.aload_n 0, 1) := dk_42 (dk_at dksX9_checkSwr_2 4 rfl rfl)
theorem dX9_checkSwr_51 : decode cX9_checkSwr 51 = .ok (.aload_n 0, 1) := dk_42 (dk_at dksX9_checkSwr_2 5 rfl rfl)
theorem dX9_checkSwr_52 : decode cX9_checkSwr 52 = .ok (.getfield 21, 3) := dk_180 0 21 (dk_at dksX9_checkSwr_2 6 rfl rfl)
theorem dX9_checkSwr_55 : decode cX9_checkSwr 55 = .ok (.getfield 72, 3) := dk_180 0 72 (dk_at dksX9_checkSwr_2 9 rfl rfl)
theorem dX9_checkSwr_58 : decode cX9_checkSwr 58 = .ok (.invokevirtual 75, 3) := dk_182 0 75 (dk_at dksX9_checkSwr_2 12 rfl rfl)
theorem dX9_checkSwr_61 : decode cX9_checkSwr 61 = .ok (.ifCond .eq 13, 3) := dk_153 0 13 (dk_at dksX9_checkSwr_2 15 rfl rfl)
theorem dX9_checkSwr_64 : decode cX9_checkSwr 64 = .ok (.aload_n 0, 1) := dk_42 (dk_at dksX9_checkSwr_2 18 rfl rfl)
theorem dX9_checkSwr_65 : decode cX9_checkSwr 65 = .ok (.getfield 21, 3) := dk_180 0 21 (dk_at dksX9_checkSwr_2 19 rfl rfl)
theorem dX9_checkSwr_68 : decode cX9_checkSwr 68 = .ok (.getfield 72, 3) := dk_180 0 72 (dk_at dksX9_checkSwr_3 0 rfl rfl)
theorem dX9_checkSwr_71 : decode cX9_checkSwr 71 = .ok (.goto 10, 3) := dk_167 0 10 (dk_at dksX9_checkSwr_3 3 rfl rfl)
theorem dX9_checkSwr_74 : decode cX9_checkSwr 74 = .ok (.aload_n 0, 1) := dk_42 (dk_at dksX9_checkSwr_3 6 rfl rfl)
theorem dX9_checkSwr_75 : decode cX9_checkSwr 75 = .ok (.getfield 21, 3) := dk_180 0 21 (dk_at dksX9_checkSwr_3 7 rfl rfl)
theorem dX9_checkSwr_78 : decode cX9_checkSwr 78 = .ok (.getfield 78, 3) := dk_180 0 78 (dk_at dksX9_checkSwr_3 10 rfl rfl)
theorem dX9_checkSwr_81 : decode cX9_checkSwr 81 = .ok (.invokespecial 83, 3) := dk_183 0 83 (dk_at dksX9_checkSwr_3 13 rfl rfl)
theorem dX9_checkSwr_84 : decode cX9_checkSwr 84 = .ok (.athrow, 1) := dk_191 (dk_at dksX9_checkSwr_3 16 rfl rfl)
theorem dX9_checkSwr_85 : decode cX9_checkSwr 85 = .ok (.new 86, 3) := dk_187 0 86 (dk_at dksX9_checkSwr_3 17 rfl rfl)
theorem dX9_checkSwr_88 : decode cX9_checkSwr 88 = .ok (.dup, 1) := dk_89 (dk_at dksX9_checkSwr_3 20 rfl rfl)
theorem dX9_checkSwr_89 : decode cX9_checkSwr 89 = .ok (.aload_n 0, 1) := dk_42 (dk_at dksX9_checkSwr_3 21 rfl rfl)
theorem dX9_checkSwr_90 : decode cX9_checkSwr 90 = .ok (.getfield 29, 3) := dk_180 0 29 (dk_at dksX9_checkSwr_4 0 rfl rfl)
theorem dX9_checkSwr_93 : decode cX9_checkSwr 93 = .ok (.aconst_null, 1) := dk_1 (dk_at dksX9_checkSwr_4 3 rfl rfl)
theorem dX9_checkSwr_94 : decode cX9_checkSwr 94 = .ok (.invokespecial 88, 3) := dk_183 0 88 (dk_at dksX9_checkSwr_4 4 rfl rfl)
theorem dX9_checkSwr_97 : decode cX9_checkSwr 97 = .ok (.athrow, 1) := dk_191 (dk_at dksX9_checkSwr_4 7 rfl rfl)
abbrev cX9_isEnd : ByteArray := prog_12_method_4_code
def yX9_isEnd : MethodName := ⟨RX9, "isEnd", "(I)Z"⟩
def dkwX9_isEnd_0 : List UInt8 := [27, 153, 0, 9, 27, 16, 63, 160, 0, 7, 4, 167, 0, 4, 3, 172]
abbrev dktX9_isEnd_0 : List UInt8 := dkwX9_isEnd_0 ++ []
theorem dksX9_isEnd_0 : cX9_isEnd.data.toList.drop 0 = dktX9_isEnd_0 := by decide +kernel
theorem dX9_isEnd_0 : decode cX9_isEnd 0 = .ok (.iload_n 1, 1) := dk_27 (dk_at dksX9_isEnd_0 0 rfl rfl)
theorem dX9_isEnd_1 : decode cX9_isEnd 1 = .ok (.ifCond .eq 9, 3) := dk_153 0 9 (dk_at dksX9_isEnd_0 1 rfl rfl)
theorem dX9_isEnd_4 : decode cX9_isEnd 4 = .ok (.iload_n 1, 1) := dk_27 (dk_at dksX9_isEnd_0 4 rfl rfl)
theorem dX9_isEnd_5 : decode cX9_isEnd 5 = .ok (.bipush 63, 2) := dk_16 63 (dk_at dksX9_isEnd_0 5 rfl rfl)
theorem dX9_isEnd_7 : decode cX9_isEnd 7 = .ok (.if_icmp .ne 7, 3) := dk_160 0 7 (dk_at dksX9_isEnd_0 7 rfl rfl)
theorem dX9_isEnd_10 : decode cX9_isEnd 10 = .ok (.iconst 1, 1) := dk_4 (dk_at dksX9_isEnd_0 10 rfl rfl)
theorem dX9_isEnd_11 : decode cX9_isEnd 11 = .ok (.goto 4, 3) := dk_167 0 4 (dk_at dksX9_isEnd_0 11 rfl rfl)
theorem dX9_isEnd_14 : decode cX9_isEnd 14 = .ok (.iconst 0, 1) := dk_3 (dk_at dksX9_isEnd_0 14 rfl rfl)
theorem dX9_isEnd_15 : decode cX9_isEnd 15 = .ok (.ireturn, 1) := dk_172 (dk_at dksX9_isEnd_0 15 rfl rfl)
abbrev cX9_checkVoltage : ByteArray := prog_12_method_6_code
def yX9_checkVoltage : MethodName := ⟨RX9, "checkVoltage", "()V"⟩
def dkwX9_checkVoltage_4 : List UInt8 := [183, 0, 123, 167, 0, 4, 1, 183, 0, 124, 191, 177]
abbrev dktX9_checkVoltage_4 : List UInt8 := dkwX9_checkVoltage_4 ++ []
def dkwX9_checkVoltage_3 : List UInt8 := [180, 0, 91, 182, 0, 118, 27, 153, 0, 23, 187, 0, 121, 89, 42, 180, 0, 3, 180, 0, 91, 182, 0, 113]
abbrev dktX9_checkVoltage_3 : List UInt8 := dkwX9_checkVoltage_3 ++ dktX9_checkVoltage_4
def dkwX9_checkVoltage_2 : List UInt8 := [182, 0, 113, 17, 1, 244, 162, 0, 7, 4, 167, 0, 4, 3, 60, 187, 0, 116, 89, 42, 180, 0, 3]
abbrev dktX9_checkVoltage_2 : List UInt8 := dkwX9_checkVoltage_2 ++ dktX9_checkVoltage_3
def dkwX9_checkVoltage_1 : List UInt8 := [182, 0, 104, 87, 42, 180, 0, 3, 180, 0, 91, 182, 0, 110, 153, 0, 68, 42, 180, 0, 3, 180, 0, 91]
abbrev dktX9_checkVoltage_1 : List UInt8 := dkwX9_checkVoltage_1 ++ dktX9_checkVoltage_2
def dkwX9_checkVoltage_0 : List UInt8 := [42, 180, 0, 3, 180, 0, 91, 42, 180, 0, 21, 182, 0, 40, 42, 180, 0, 3, 180, 0, 95, 180, 0, 99]
abbrev dktX9_checkVoltage_0 : List UInt8 := dkwX9_checkVoltage_0 ++ dktX9_checkVoltage_1
theorem dksX9_checkVoltage_0 : cX9_checkVoltage.data.toList.drop 0 = dktX9_checkVoltage_0 := by decide +kernel
theorem dksX9_checkVoltage_1 : cX9_checkVoltage.data.toList.drop 24 = dktX9_checkVoltage_1 := dk_seg dksX9_checkVoltage_0 24 rfl rfl
theorem dksX9_checkVoltage_2 : cX9_checkVoltage.data.toList.drop 48 = dktX9_checkVoltage_2 := dk_seg dksX9_checkVoltage_1 24 rfl rfl
theorem dksX9_checkVoltage_3 : cX9_checkVoltage.data.toList.drop 71 = dktX9_checkVoltage_3 := dk_seg dksX9_checkVoltage_2 23 rfl rfl
theorem dksX9_checkVoltage_4 : cX9_checkVoltage.data.toList.drop 95 = dktX9_checkVoltage_4 := dk_seg dksX9_checkVoltage_3 24 rfl rfl
theorem dX9_checkVoltage_0 : decode cX9_checkVoltage 0 = .ok (.aload_n 0, 1) := dk_42 (dk_at dksX9_checkVoltage_0 0 rfl rfl)
theorem dX9_checkVoltage_1 : decode cX9_checkVoltage 1 = .ok (.getfield 3, 3) := dk_180 0 3 (dk_at dksX9_checkVoltage_0 1 rfl rfl)
theorem dX9_checkVoltage_4 : decode cX9_checkVoltage 4 = .ok (.getfield 91, 3) := dk_180 0 91 (dk_at dksX9_checkVoltage_0 4 rfl rfl)
theorem dX9_checkVoltage_7 : decode cX9_checkVoltage 7 = .ok (.aload_n 0, 1) := dk_42 (dk_at dksX9_checkVoltage_0 7 rfl rfl)
theorem dX9_checkVoltage_8 : decode cX9_checkVoltage 8 = .ok (.getfield 21, 3) := dk_180 0 21 (dk_at dksX9_checkVoltage_0 8 rfl rfl)
theorem dX9_checkVoltage_11 : decode cX9_checkVoltage 11 = .ok (.invokevirtual 40, 3) := dk_182 0 40 (dk_at dksX9_checkVoltage_0 11 rfl rfl)
theorem dX9_checkVoltage_14 : decode cX9_checkVoltage 14 = .ok (.aload_n 0, 1) := dk_42 (dk_at dksX9_checkVoltage_0 14 rfl rfl)
theorem dX9_checkVoltage_15 : decode cX9_checkVoltage 15 = .ok (.getfield 3, 3) := dk_180 0 3 (dk_at dksX9_checkVoltage_0 15 rfl rfl)
theorem dX9_checkVoltage_18 : decode cX9_checkVoltage 18 = .ok (.getfield 95, 3) := dk_180 0 95 (dk_at dksX9_checkVoltage_0 18 rfl rfl)
theorem dX9_checkVoltage_21 : decode cX9_checkVoltage 21 = .ok (.getfield 99, 3) := dk_180 0 99 (dk_at dksX9_checkVoltage_0 21 rfl rfl)
theorem dX9_checkVoltage_24 : decode cX9_checkVoltage 24 = .ok (.invokevirtual 104, 3) := dk_182 0 104 (dk_at dksX9_checkVoltage_1 0 rfl rfl)
theorem dX9_checkVoltage_27 : decode cX9_checkVoltage 27 = .ok (.pop, 1) := dk_87 (dk_at dksX9_checkVoltage_1 3 rfl rfl)
theorem dX9_checkVoltage_28 : decode cX9_checkVoltage 28 = .ok (.aload_n 0, 1) := dk_42 (dk_at dksX9_checkVoltage_1 4 rfl rfl)
theorem dX9_checkVoltage_29 : decode cX9_checkVoltage 29 = .ok (.getfield 3, 3) := dk_180 0 3 (dk_at dksX9_checkVoltage_1 5 rfl rfl)
theorem dX9_checkVoltage_32 : decode cX9_checkVoltage 32 = .ok (.getfield 91, 3) := dk_180 0 91 (dk_at dksX9_checkVoltage_1 8 rfl rfl)
theorem dX9_checkVoltage_35 : decode cX9_checkVoltage 35 = .ok (.invokevirtual 110, 3) := dk_182 0 110 (dk_at dksX9_checkVoltage_1 11 rfl rfl)
theorem dX9_checkVoltage_38 : decode cX9_checkVoltage 38 = .ok (.ifCond .eq 68, 3) := dk_153 0 68 (dk_at dksX9_checkVoltage_1 14 rfl rfl)
theorem dX9_checkVoltage_41 : decode cX9_checkVoltage 41 = .ok (.aload_n 0, 1) := dk_42 (dk_at dksX9_checkVoltage_1 17 rfl rfl)
theorem dX9_checkVoltage_42 : decode cX9_checkVoltage 42 = .ok (.getfield 3, 3) := dk_180 0 3 (dk_at dksX9_checkVoltage_1 18 rfl rfl)
theorem dX9_checkVoltage_45 : decode cX9_checkVoltage 45 = .ok (.getfield 91, 3) := dk_180 0 91 (dk_at dksX9_checkVoltage_1 21 rfl rfl)
theorem dX9_checkVoltage_48 : decode cX9_checkVoltage 48 = .ok (.invokevirtual 113, 3) := dk_182 0 113 (dk_at dksX9_checkVoltage_2 0 rfl rfl)
theorem dX9_checkVoltage_51 : decode cX9_checkVoltage 51 = .ok (.sipush 500, 3) := dk_17 1 244 (dk_at dksX9_checkVoltage_2 3 rfl rfl)
theorem dX9_checkVoltage_54 : decode cX9_checkVoltage 54 = .ok (.if_icmp .ge 7, 3) := dk_162 0 7 (dk_at dksX9_checkVoltage_2 6 rfl rfl)
theorem dX9_checkVoltage_57 : decode cX9_checkVoltage 57 = .ok (.iconst 1, 1) := dk_4 (dk_at dksX9_checkVoltage_2 9 rfl rfl)
theorem dX9_checkVoltage_58 : decode cX9_checkVoltage 58 = .ok (.goto 4, 3) := dk_167 0 4 (dk_at dksX9_checkVoltage_2 10 rfl rfl)
theorem dX9_checkVoltage_61 : decode cX9_checkVoltage 61 = .ok (.iconst 0, 1) := dk_3 (dk_at dksX9_checkVoltage_2 13 rfl rfl)
theorem dX9_checkVoltage_62 : decode cX9_checkVoltage 62 = .ok (.istore_n 1, 1) := dk_60 (dk_at dksX9_checkVoltage_2 14 rfl rfl)
theorem dX9_checkVoltage_63 : decode cX9_checkVoltage 63 = .ok (.new 116, 3) := dk_187 0 116 (dk_at dksX9_checkVoltage_2 15 rfl rfl)
theorem dX9_checkVoltage_66 : decode cX9_checkVoltage 66 = .ok (.dup, 1) := dk_89 (dk_at dksX9_checkVoltage_2 18 rfl rfl)
theorem dX9_checkVoltage_67 : decode cX9_checkVoltage 67 = .ok (.aload_n 0, 1) := dk_42 (dk_at dksX9_checkVoltage_2 19 rfl rfl)
theorem dX9_checkVoltage_68 : decode cX9_checkVoltage 68 = .ok (.getfield 3, 3) := dk_180 0 3 (dk_at dksX9_checkVoltage_2 20 rfl rfl)
theorem dX9_checkVoltage_71 : decode cX9_checkVoltage 71 = .ok (.getfield 91, 3) := dk_180 0 91 (dk_at dksX9_checkVoltage_3 0 rfl rfl)
theorem dX9_checkVoltage_74 : decode cX9_checkVoltage 74 = .ok (.invokevirtual 118, 3) := dk_182 0 118 (dk_at dksX9_checkVoltage_3 3 rfl rfl)
theorem dX9_checkVoltage_77 : decode cX9_checkVoltage 77 = .ok (.iload_n 1, 1) := dk_27 (dk_at dksX9_checkVoltage_3 6 rfl rfl)
theorem dX9_checkVoltage_78 : decode cX9_checkVoltage 78 = .ok (.ifCond .eq 23, 3) := dk_153 0 23 (dk_at dksX9_checkVoltage_3 7 rfl rfl)
theorem dX9_checkVoltage_81 : decode cX9_checkVoltage 81 = .ok (.new 121, 3) := dk_187 0 121 (dk_at dksX9_checkVoltage_3 10 rfl rfl)
theorem dX9_checkVoltage_84 : decode cX9_checkVoltage 84 = .ok (.dup, 1) := dk_89 (dk_at dksX9_checkVoltage_3 13 rfl rfl)
theorem dX9_checkVoltage_85 : decode cX9_checkVoltage 85 = .ok (.aload_n 0, 1) := dk_42 (dk_at dksX9_checkVoltage_3 14 rfl rfl)
theorem dX9_checkVoltage_86 : decode cX9_checkVoltage 86 = .ok (.getfield 3, 3) := dk_180 0 3 (dk_at dksX9_checkVoltage_3 15 rfl rfl)
theorem dX9_checkVoltage_89 : decode cX9_checkVoltage 89 = .ok (.getfield 91, 3) := dk_180 0 91 (dk_at dksX9_checkVoltage_3 18 rfl rfl)
theorem dX9_checkVoltage_92 : decode cX9_checkVoltage 92 = .ok (.invokevirtual 113, 3) := dk_182 0 113 (dk_at dksX9_checkVoltage_3 21 rfl rfl)
theorem dX9_checkVoltage_95 : decode cX9_checkVoltage 95 = .ok (.invokespecial 123, 3) := dk_183 0 123 (dk_at dksX9_checkVoltage_4 0 rfl rfl)
theorem dX9_checkVoltage_98 : decode cX9_checkVoltage 98 = .ok (.goto 4, 3) := dk_167 0 4 (dk_at dksX9_checkVoltage_4 3 rfl rfl)
theorem dX9_checkVoltage_101 : decode cX9_checkVoltage 101 = .ok (.aconst_null, 1) := dk_1 (dk_at dksX9_checkVoltage_4 6 rfl rfl)
theorem dX9_checkVoltage_102 : decode cX9_checkVoltage 102 = .ok (.invokespecial 124, 3) := dk_183 0 124 (dk_at dksX9_checkVoltage_4 7 rfl rfl)
theorem dX9_checkVoltage_105 : decode cX9_checkVoltage 105 = .ok (.athrow, 1) := dk_191 (dk_at dksX9_checkVoltage_4 10 rfl rfl)
theorem dX9_checkVoltage_106 : decode cX9_checkVoltage 106 = .ok (.return_, 1) := dk_177 (dk_at dksX9_checkVoltage_4 11 rfl rfl)
theorem q121 : (Jvm.Cond.initialized "AntennaTuner$Search") ∈ lw_all := lw_g (lw_at lw_m1 28 rfl) rfl
theorem q187 : (Jvm.Cond.fieldLinkNest "AntennaTuner$Search" (72 : Nat) "AntennaTuner$Setting" "coil" "I" "AntennaTuner") ∈ lw_tbl := lw_at lw_m1 94 rfl
theorem q190 : (Jvm.Cond.fieldLinkNest "AntennaTuner$Search" (78 : Nat) "AntennaTuner$Setting" "capacitor" "I" "AntennaTuner") ∈ lw_tbl := lw_at lw_m1 97 rfl
theorem q284 : (Jvm.Cond.fieldLinkNest "AntennaTuner$Search" (48 : Nat) "AntennaTuner" "moves" "[LAntennaTuner$Move;" "AntennaTuner") ∈ lw_tbl := lw_at lw_m1 191 rfl
theorem q287 : (Jvm.Cond.fieldLinkNest "AntennaTuner$Search" (91 : Nat) "AntennaTuner" "circuit" "LAntennaTuner$Circuit;" "AntennaTuner") ∈ lw_tbl := lw_at lw_m1 194 rfl
theorem q290 : (Jvm.Cond.fieldLinkNest "AntennaTuner$Search" (63 : Nat) "AntennaTuner" "tuner" "LAntennaTuner$Tuner;" "AntennaTuner") ∈ lw_tbl := lw_at lw_m1 197 rfl
theorem q292 : (Jvm.Cond.fieldLinkNest "AntennaTuner$Search" (95 : Nat) "AntennaTuner" "state" "LAntennaTuner$State;" "AntennaTuner") ∈ lw_tbl := lw_at lw_m1 199 rfl
theorem q362 : (Jvm.Cond.fieldLinkNest "AntennaTuner$Search" (67 : Nat) "AntennaTuner$Tuner" "greatestSwr" "I" "AntennaTuner") ∈ lw_tbl := lw_at lw_m2 29 rfl
theorem q809 : (Jvm.Cond.fieldLinkNest "AntennaTuner$Search" (99 : Nat) "AntennaTuner$State" "frequency" "I" "AntennaTuner") ∈ lw_tbl := lw_at lw_m3 236 rfl
theorem q989 : (Jvm.Cond.selects "AntennaTuner$Search" ({ cls := "java/lang/Object", name := "getClass", desc := "()Ljava/lang/Class;" } : Jvm.MethodName) ({ cls := "java/lang/Object", name := "getClass", desc := "()Ljava/lang/Class;" } : Jvm.MethodName)) ∈ lw_all := lw_g (lw_at lw_m4 176 rfl) rfl
theorem q1247 : (Jvm.Cond.instantiable "AntennaTuner$Search" (4 : Nat)) ∈ lw_all := lw_g (lw_at lw_m5 194 rfl) rfl
theorem q1249 : (Jvm.Cond.instanceMethod ({ cls := "AntennaTuner$Search", name := "<init>", desc := "(LAntennaTuner;I)V" } : Jvm.MethodName)) ∈ lw_all := lw_g (lw_at lw_m5 196 rfl) rfl
theorem q1250 : (Jvm.Cond.code ({ cls := "AntennaTuner$Search", name := "<init>", desc := "(LAntennaTuner;I)V" } : Jvm.MethodName) prog_12_method_1_code (4 : Nat) (Option.none : Option Jvm.ClassFile.FieldType)) ∈ lw_all := lw_g (lw_at lw_m5 197 rfl) rfl
theorem q1251 : (Jvm.Cond.methodLink "AntennaTuner$Search" (9 : Nat) ({ cls := "java/lang/Object", name := "<init>", desc := "()V" } : Jvm.MethodName)) ∈ lw_all := lw_g (lw_at lw_m5 198 rfl) rfl
theorem q1252 : (Jvm.Cond.methodLink "AntennaTuner$Search" (15 : Nat) ({ cls := "AntennaTuner$Setting", name := "of", desc := "(I)LAntennaTuner$Setting;" } : Jvm.MethodName)) ∈ lw_all := lw_g (lw_at lw_m5 199 rfl) rfl
theorem q1253 : (Jvm.Cond.methodLink "AntennaTuner$Search" (25 : Nat) ({ cls := "AntennaTuner$Search", name := "evaluate", desc := "(LAntennaTuner$Setting;)I" } : Jvm.MethodName)) ∈ lw_all := lw_g (lw_at lw_m5 200 rfl) rfl
theorem q1254 : (Jvm.Cond.privateMethod ({ cls := "AntennaTuner$Search", name := "evaluate", desc := "(LAntennaTuner$Setting;)I" } : Jvm.MethodName)) ∈ lw_tbl := lw_at lw_m5 201 rfl
theorem q1255 : (Jvm.Cond.instanceMethod ({ cls := "AntennaTuner$Search", name := "evaluate", desc := "(LAntennaTuner$Setting;)I" } : Jvm.MethodName)) ∈ lw_all := lw_g (lw_at lw_m5 202 rfl) rfl
theorem q1256 : (Jvm.Cond.code ({ cls := "AntennaTuner$Search", name := "evaluate", desc := "(LAntennaTuner$Setting;)I" } : Jvm.MethodName) prog_12_method_2_code (2 : Nat) (Option.some Jvm.ClassFile.FieldType.int)) ∈ lw_all := lw_g (lw_at lw_m5 203 rfl) rfl
theorem q1257 : (Jvm.Cond.methodLink "AntennaTuner$Search" (40 : Nat) ({ cls := "AntennaTuner$Setting", name := "code", desc := "()I" } : Jvm.MethodName)) ∈ lw_all := lw_g (lw_at lw_m5 204 rfl) rfl
theorem q1258 : (Jvm.Cond.methodLinkNest "AntennaTuner$Search" (44 : Nat) ({ cls := "AntennaTuner", name := "swrBy", desc := "(I)I" } : Jvm.MethodName) "AntennaTuner") ∈ lw_tbl := lw_at lw_m5 205 rfl
theorem q1259 : (Jvm.Cond.methodLink "AntennaTuner$Search" (33 : Nat) ({ cls := "AntennaTuner$Search", name := "improve", desc := "(I)Z" } : Jvm.MethodName)) ∈ lw_all := lw_g (lw_at lw_m5 206 rfl) rfl
theorem q1260 : (Jvm.Cond.privateMethod ({ cls := "AntennaTuner$Search", name := "improve", desc := "(I)Z" } : Jvm.MethodName)) ∈ lw_tbl := lw_at lw_m5 207 rfl
theorem q1261 : (Jvm.Cond.instanceMethod ({ cls := "AntennaTuner$Search", name := "improve", desc := "(I)Z" } : Jvm.MethodName)) ∈ lw_all := lw_g (lw_at lw_m5 208 rfl) rfl
theorem q1262 : (Jvm.Cond.code ({ cls := "AntennaTuner$Search", name := "improve", desc := "(I)Z" } : Jvm.MethodName) prog_12_method_3_code (7 : Nat) (Option.some Jvm.ClassFile.FieldType.boolean)) ∈ lw_all := lw_g (lw_at lw_m5 209 rfl) rfl
theorem q1263 : (Jvm.Cond.interfaceEntry "AntennaTuner$Search" (52 : Nat)) ∈ lw_tbl := lw_at lw_m5 210 rfl
theorem q1264 : (Jvm.Cond.methodLink "AntennaTuner$Search" (52 : Nat) ({ cls := "AntennaTuner$Move", name := "from", desc := "(LAntennaTuner$Setting;I)LAntennaTuner$Setting;" } : Jvm.MethodName)) ∈ lw_all := lw_g (lw_at lw_m5 211 rfl) rfl
theorem q1267 : (Jvm.Cond.methodLink "AntennaTuner$Search" (58 : Nat) ({ cls := "AntennaTuner$Setting", name := "isPossible", desc := "()Z" } : Jvm.MethodName)) ∈ lw_all := lw_g (lw_at lw_m5 214 rfl) rfl
theorem q1272 : (Jvm.Cond.constant "AntennaTuner$Search" (62 : Nat) (99999 : Int32)) ∈ lw_all := lw_g (lw_at lw_m5 219 rfl) rfl
theorem q1273 : (Jvm.Cond.fieldLink "AntennaTuner$Search" (21 : Nat) "AntennaTuner$Search" "now" "LAntennaTuner$Setting;") ∈ lw_all := lw_g (lw_at lw_m5 220 rfl) rfl
theorem q1275 : (Jvm.Cond.fieldLink "AntennaTuner$Search" (29 : Nat) "AntennaTuner$Search" "swr" "I") ∈ lw_all := lw_g (lw_at lw_m5 222 rfl) rfl
theorem q1277 : (Jvm.Cond.fieldLink "AntennaTuner$Search" (37 : Nat) "AntennaTuner$Search" "evaluated" "I") ∈ lw_all := lw_g (lw_at lw_m5 224 rfl) rfl
theorem q1279 : (Jvm.Cond.fieldLink "AntennaTuner$Search" (3 : Nat) "AntennaTuner$Search" "this$0" "LAntennaTuner;") ∈ lw_all := lw_g (lw_at lw_m5 226 rfl) rfl
theorem q1280 : (Jvm.Cond.lays "AntennaTuner$Search" "AntennaTuner$Search" "now" "LAntennaTuner$Setting;") ∈ lw_all := lw_g (lw_at lw_m5 227 rfl) rfl
theorem q1281 : (Jvm.Cond.soleField "AntennaTuner$Search" "now") ∈ lw_all := lw_g (lw_at lw_m5 228 rfl) rfl
theorem q1282 : (Jvm.Cond.lays "AntennaTuner$Search" "AntennaTuner$Search" "swr" "I") ∈ lw_all := lw_g (lw_at lw_m5 229 rfl) rfl
theorem q1283 : (Jvm.Cond.soleField "AntennaTuner$Search" "swr") ∈ lw_all := lw_g (lw_at lw_m5 230 rfl) rfl
theorem q1284 : (Jvm.Cond.lays "AntennaTuner$Search" "AntennaTuner$Search" "evaluated" "I") ∈ lw_all := lw_g (lw_at lw_m5 231 rfl) rfl
theorem q1285 : (Jvm.Cond.soleField "AntennaTuner$Search" "evaluated") ∈ lw_all := lw_g (lw_at lw_m5 232 rfl) rfl
theorem q1286 : (Jvm.Cond.laysFinal "AntennaTuner$Search" "AntennaTuner$Search" "this$0" "LAntennaTuner;") ∈ lw_all := lw_g (lw_at lw_m5 233 rfl) rfl
theorem q1287 : (Jvm.Cond.soleField "AntennaTuner$Search" "this$0") ∈ lw_all := lw_g (lw_at lw_m5 234 rfl) rfl
theorem q1288 : (Jvm.Cond.superclass "AntennaTuner$Search" "java/lang/Object") ∈ lw_all := lw_g (lw_at lw_m5 235 rfl) rfl
theorem q1290 : (Jvm.Cond.instanceMethod ({ cls := "AntennaTuner$Search", name := "check", desc := "()V" } : Jvm.MethodName)) ∈ lw_all := lw_g (lw_at lw_m5 237 rfl) rfl
theorem q1291 : (Jvm.Cond.selects "AntennaTuner$Search" ({ cls := "AntennaTuner$Search", name := "check", desc := "()V" } : Jvm.MethodName) ({ cls := "AntennaTuner$Search", name := "check", desc := "()V" } : Jvm.MethodName)) ∈ lw_all := lw_g (lw_at lw_m5 238 rfl) rfl
theorem q1292 : (Jvm.Cond.codeWith ({ cls := "AntennaTuner$Search", name := "check", desc := "()V" } : Jvm.MethodName) prog_12_method_7_code (2 : Nat) (Option.none : Option Jvm.ClassFile.FieldType) [((0 : Nat), (8 : Nat), (11 : Nat), (81 : Nat)), ((0 : Nat), (8 : Nat), (11 : Nat), (116 : Nat))]) ∈ lw_all := lw_g (lw_at lw_m5 239 rfl) rfl
theorem q1293 : (Jvm.Cond.classLink "AntennaTuner$Search" (81 : Nat) "AntennaTuner$EndOfRange") ∈ lw_all := lw_g (lw_at lw_m6 0 rfl) rfl
theorem q1294 : (Jvm.Cond.classLink "AntennaTuner$Search" (116 : Nat) "AntennaTuner$Overload") ∈ lw_all := lw_g (lw_at lw_m6 1 rfl) rfl
theorem q1295 : (Jvm.Cond.methodLink "AntennaTuner$Search" (125 : Nat) ({ cls := "AntennaTuner$Search", name := "checkSwr", desc := "()V" } : Jvm.MethodName)) ∈ lw_all := lw_g (lw_at lw_m6 2 rfl) rfl
theorem q1296 : (Jvm.Cond.privateMethod ({ cls := "AntennaTuner$Search", name := "checkSwr", desc := "()V" } : Jvm.MethodName)) ∈ lw_tbl := lw_at lw_m6 3 rfl
theorem q1297 : (Jvm.Cond.instanceMethod ({ cls := "AntennaTuner$Search", name := "checkSwr", desc := "()V" } : Jvm.MethodName)) ∈ lw_all := lw_g (lw_at lw_m6 4 rfl) rfl
theorem q1298 : (Jvm.Cond.code ({ cls := "AntennaTuner$Search", name := "checkSwr", desc := "()V" } : Jvm.MethodName) prog_12_method_5_code (1 : Nat) (Option.none : Option Jvm.ClassFile.FieldType)) ∈ lw_all := lw_g (lw_at lw_m6 5 rfl) rfl
theorem q1299 : (Jvm.Cond.methodLink "AntennaTuner$Search" (75 : Nat) ({ cls := "AntennaTuner$Search", name := "isEnd", desc := "(I)Z" } : Jvm.MethodName)) ∈ lw_all := lw_g (lw_at lw_m6 6 rfl) rfl
theorem q1300 : (Jvm.Cond.privateMethod ({ cls := "AntennaTuner$Search", name := "isEnd", desc := "(I)Z" } : Jvm.MethodName)) ∈ lw_tbl := lw_at lw_m6 7 rfl
theorem q1301 : (Jvm.Cond.instanceMethod ({ cls := "AntennaTuner$Search", name := "isEnd", desc := "(I)Z" } : Jvm.MethodName)) ∈ lw_all := lw_g (lw_at lw_m6 8 rfl) rfl
theorem q1302 : (Jvm.Cond.code ({ cls := "AntennaTuner$Search", name := "isEnd", desc := "(I)Z" } : Jvm.MethodName) prog_12_method_4_code (2 : Nat) (Option.some Jvm.ClassFile.FieldType.boolean)) ∈ lw_all := lw_g (lw_at lw_m6 9 rfl) rfl
theorem q1311 : (Jvm.Cond.methodLink "AntennaTuner$Search" (83 : Nat) ({ cls := "AntennaTuner$EndOfRange", name := "<init>", desc := "(I)V" } : Jvm.MethodName)) ∈ lw_all := lw_g (lw_at lw_m6 18 rfl) rfl
theorem q1324 : (Jvm.Cond.classLink "AntennaTuner$Search" (86 : Nat) "AntennaTuner$SearchFailure") ∈ lw_all := lw_g (lw_at lw_m6 31 rfl) rfl
theorem q1333 : (Jvm.Cond.methodLink "AntennaTuner$Search" (88 : Nat) ({ cls := "AntennaTuner$SearchFailure", name := "<init>", desc := "(ILAntennaTuner$TunerFailure;)V" } : Jvm.MethodName)) ∈ lw_all := lw_g (lw_at lw_m6 40 rfl) rfl
theorem q1340 : (Jvm.Cond.methodLink "AntennaTuner$Search" (128 : Nat) ({ cls := "AntennaTuner$Search", name := "checkVoltage", desc := "()V" } : Jvm.MethodName)) ∈ lw_all := lw_g (lw_at lw_m6 47 rfl) rfl
theorem q1341 : (Jvm.Cond.privateMethod ({ cls := "AntennaTuner$Search", name := "checkVoltage", desc := "()V" } : Jvm.MethodName)) ∈ lw_tbl := lw_at lw_m6 48 rfl
theorem q1342 : (Jvm.Cond.instanceMethod ({ cls := "AntennaTuner$Search", name := "checkVoltage", desc := "()V" } : Jvm.MethodName)) ∈ lw_all := lw_g (lw_at lw_m6 49 rfl) rfl
theorem q1343 : (Jvm.Cond.code ({ cls := "AntennaTuner$Search", name := "checkVoltage", desc := "()V" } : Jvm.MethodName) prog_12_method_6_code (2 : Nat) (Option.none : Option Jvm.ClassFile.FieldType)) ∈ lw_all := lw_g (lw_at lw_m6 50 rfl) rfl
theorem q1344 : (Jvm.Cond.methodLink "AntennaTuner$Search" (104 : Nat) ({ cls := "AntennaTuner$Circuit", name := "lay", desc := "(II)LAntennaTuner$Circuit;" } : Jvm.MethodName)) ∈ lw_all := lw_g (lw_at lw_m6 51 rfl) rfl
theorem q1345 : (Jvm.Cond.methodLink "AntennaTuner$Search" (110 : Nat) ({ cls := "AntennaTuner$Circuit", name := "isOverloaded", desc := "()Z" } : Jvm.MethodName)) ∈ lw_all := lw_g (lw_at lw_m6 52 rfl) rfl
theorem q1346 : (Jvm.Cond.methodLink "AntennaTuner$Search" (113 : Nat) ({ cls := "AntennaTuner$Circuit", name := "efficiency", desc := "()I" } : Jvm.MethodName)) ∈ lw_all := lw_g (lw_at lw_m6 53 rfl) rfl
theorem q1355 : (Jvm.Cond.methodLink "AntennaTuner$Search" (118 : Nat) ({ cls := "AntennaTuner$Circuit", name := "voltage", desc := "()I" } : Jvm.MethodName)) ∈ lw_all := lw_g (lw_at lw_m6 62 rfl) rfl
theorem q1356 : (Jvm.Cond.classLink "AntennaTuner$Search" (121 : Nat) "AntennaTuner$LossyCoil") ∈ lw_all := lw_g (lw_at lw_m6 63 rfl) rfl
theorem q1365 : (Jvm.Cond.methodLink "AntennaTuner$Search" (123 : Nat) ({ cls := "AntennaTuner$LossyCoil", name := "<init>", desc := "(I)V" } : Jvm.MethodName)) ∈ lw_all := lw_g (lw_at lw_m6 72 rfl) rfl
theorem q1372 : (Jvm.Cond.methodLink "AntennaTuner$Search" (124 : Nat) ({ cls := "AntennaTuner$Overload", name := "<init>", desc := "(ILAntennaTuner$TunerFailure;)V" } : Jvm.MethodName)) ∈ lw_all := lw_g (lw_at lw_m6 79 rfl) rfl
theorem q2224 : (Jvm.Cond.castable "AntennaTuner$Search" "java/lang/Object") ∈ lw_tbl := lw_at lw_m9 211 rfl
theorem in_X9 : ∀ w ∈ wsX90, w ∈ lw_all := lw_in wsX90 [1280, 1282, 1284, 1286] (by decide +kernel) (by decide +kernel)
/-! AntennaTuner$TunerFailure -/
set_option maxRecDepth 100000
def RX10 : String := "AntennaTuner$TunerFailure"
abbrev cX10_init : ByteArray := prog_18_method_1_code
def yX10_init : MethodName := ⟨RX10, "<init>", "(ILAntennaTuner$TunerFailure;)V"⟩
def dkwX10_init_0 : List UInt8 := [42, 1, 44, 3, 3, 183, 0, 1, 42, 27, 181, 0, 7, 177]
abbrev dktX10_init_0 : List UInt8 := dkwX10_init_0 ++ []
theorem dksX10_init_0 : cX10_init.data.toList.drop 0 = dktX10_init_0 := by decide +kernel
theorem dX10_init_0 : decode cX10_init 0 = .ok (.aload_n 0, 1) := dk_42 (dk_at dksX10_init_0 0 rfl rfl)
theorem dX10_init_1 : decode cX10_init 1 = .ok (.aconst_null, 1) := dk_1 (dk_at dksX10_init_0 1 rfl rfl)
theorem dX10_init_2 : decode cX10_init 2 = .ok (.aload_n 2, 1) := dk_44 (dk_at dksX10_init_0 2 rfl rfl)
theorem dX10_init_3 : decode cX10_init 3 = .ok (.iconst 0, 1) := dk_3 (dk_at dksX10_init_0 3 rfl rfl)
theorem dX10_init_4 : decode cX10_init 4 = .ok (.iconst 0, 1) := dk_3 (dk_at dksX10_init_0 4 rfl rfl)
theorem dX10_init_5 : decode cX10_init 5 = .ok (.invokespecial 1, 3) := dk_183 0 1 (dk_at dksX10_init_0 5 rfl rfl)
theorem dX10_init_8 : decode cX10_init 8 = .ok (.aload_n 0, 1) := dk_42 (dk_at dksX10_init_0 8 rfl rfl)
theorem dX10_init_9 : decode cX10_init 9 = .ok (.iload_n 1, 1) := dk_27 (dk_at dksX10_init_0 9 rfl rfl)
theorem dX10_init_10 : decode cX10_init 10 = .ok (.putfield 7, 3) := dk_181 0 7 (dk_at dksX10_init_0 10 rfl rfl)
theorem dX10_init_13 : decode cX10_init 13 = .ok (.return_, 1) := dk_177 (dk_at dksX10_init_0 13 rfl rfl)
theorem q122 : (Jvm.Cond.initialized "AntennaTuner$TunerFailure") ∈ lw_all := lw_g (lw_at lw_m1 29 rfl) rfl
theorem q1315 : (Jvm.Cond.instanceMethod ({ cls := "AntennaTuner$TunerFailure", name := "<init>", desc := "(ILAntennaTuner$TunerFailure;)V" } : Jvm.MethodName)) ∈ lw_all := lw_g (lw_at lw_m6 22 rfl) rfl
theorem q1316 : (Jvm.Cond.code ({ cls := "AntennaTuner$TunerFailure", name := "<init>", desc := "(ILAntennaTuner$TunerFailure;)V" } : Jvm.MethodName) prog_18_method_1_code (3 : Nat) (Option.none : Option Jvm.ClassFile.FieldType)) ∈ lw_all := lw_g (lw_at lw_m6 23 rfl) rfl
theorem q1317 : (Jvm.Cond.methodLink "AntennaTuner$TunerFailure" (1 : Nat) ({ cls := "java/lang/Exception", name := "<init>", desc := "(Ljava/lang/String;Ljava/lang/Throwable;ZZ)V" } : Jvm.MethodName)) ∈ lw_all := lw_g (lw_at lw_m6 24 rfl) rfl
theorem q1318 : (Jvm.Cond.fieldLink "AntennaTuner$TunerFailure" (7 : Nat) "AntennaTuner$TunerFailure" "value" "I") ∈ lw_all := lw_g (lw_at lw_m6 25 rfl) rfl
theorem q1321 : (Jvm.Cond.soleField "AntennaTuner$TunerFailure" "value") ∈ lw_all := lw_g (lw_at lw_m6 28 rfl) rfl
theorem q1476 : (Jvm.Cond.declares ({ cls := "AntennaTuner$TunerFailure", name := "kind", desc := "()I" } : Jvm.MethodName)) ∈ lw_tbl := lw_at lw_m6 183 rfl
theorem q1477 : (Jvm.Cond.sameMethod "AntennaTuner$TunerFailure" "AntennaTuner$TunerFailure" "kind" "()I") ∈ lw_all := lw_g (lw_at lw_m6 184 rfl) rfl
/-! AntennaTuner$EndOfRange -/
set_option maxRecDepth 100000
def RX11 : String := "AntennaTuner$EndOfRange"
def TX11 : u_T := fun k => match k with
  | 0 => ("AntennaTuner$TunerFailure", "value", "I", true)
  | 1 => ("java/lang/Throwable", "cause", "Ljava/lang/Throwable;", false)
  | 2 => ("java/lang/Throwable", "stackTrace", "[Ljava/lang/StackTraceElement;", false)
  | 3 => ("java/lang/Throwable", "suppressedExceptions", "Ljava/util/List;", false)
  | 4 => ("java/lang/Throwable", "detailMessage", "Ljava/lang/String;", false)
  | 5 => ("java/lang/Throwable", "backtrace", "Ljava/lang/Object;", false)
  | _ => ("java/lang/Throwable", "depth", "I", false)
def tyX11 : Nat → FieldType := fun k => match k with
  | 0 => .int
  | 1 => .object "java/lang/Throwable"
  | 2 => .array (.object "java/lang/StackTraceElement")
  | 3 => .object "java/util/List"
  | 4 => .object "java/lang/String"
  | 5 => .object "java/lang/Object"
  | _ => .int
abbrev wsX110 : List Cond := u_ws RX11 TX11 7
theorem nmX11 : ∀ a, a < 7 → ∀ b, b < 7 → a ≠ b → (TX11 a).2.1 ≠ (TX11 b).2.1 := by decide +kernel
theorem tyX11_ok : ∀ k, k < 7 → parseFieldDescriptor (TX11 k).2.2.1 = some (tyX11 k) := by decide +kernel
abbrev cX11_init : ByteArray := prog_3_method_1_code
def yX11_init : MethodName := ⟨RX11, "<init>", "(I)V"⟩
def dkwX11_init_0 : List UInt8 := [42, 27, 1, 183, 0, 1, 177]
abbrev dktX11_init_0 : List UInt8 := dkwX11_init_0 ++ []
theorem dksX11_init_0 : cX11_init.data.toList.drop 0 = dktX11_init_0 := by decide +kernel
theorem dX11_init_0 : decode cX11_init 0 = .ok (.aload_n 0, 1) := dk_42 (dk_at dksX11_init_0 0 rfl rfl)
theorem dX11_init_1 : decode cX11_init 1 = .ok (.iload_n 1, 1) := dk_27 (dk_at dksX11_init_0 1 rfl rfl)
theorem dX11_init_2 : decode cX11_init 2 = .ok (.aconst_null, 1) := dk_1 (dk_at dksX11_init_0 2 rfl rfl)
theorem dX11_init_3 : decode cX11_init 3 = .ok (.invokespecial 1, 3) := dk_183 0 1 (dk_at dksX11_init_0 3 rfl rfl)
theorem dX11_init_6 : decode cX11_init 6 = .ok (.return_, 1) := dk_177 (dk_at dksX11_init_0 6 rfl rfl)
abbrev cX11_kind : ByteArray := prog_3_method_2_code
def yX11_kind : MethodName := ⟨RX11, "kind", "()I"⟩
theorem dX11_kind_0 : decode cX11_kind 0 = .ok (.iconst 2, 1) := by decide +kernel
theorem dX11_kind_1 : decode cX11_kind 1 = .ok (.ireturn, 1) := by decide +kernel
theorem q123 : (Jvm.Cond.initialized "AntennaTuner$EndOfRange") ∈ lw_all := lw_g (lw_at lw_m1 30 rfl) rfl
theorem q711 : (Jvm.Cond.selects "AntennaTuner$EndOfRange" ({ cls := "java/lang/Throwable", name := "fillInStackTrace", desc := "()Ljava/lang/Throwable;" } : Jvm.MethodName) ({ cls := "java/lang/Throwable", name := "fillInStackTrace", desc := "()Ljava/lang/Throwable;" } : Jvm.MethodName)) ∈ lw_all := lw_g (lw_at lw_m3 138 rfl) rfl
theorem q981 : (Jvm.Cond.selects "AntennaTuner$EndOfRange" ({ cls := "java/lang/Object", name := "getClass", desc := "()Ljava/lang/Class;" } : Jvm.MethodName) ({ cls := "java/lang/Object", name := "getClass", desc := "()Ljava/lang/Class;" } : Jvm.MethodName)) ∈ lw_all := lw_g (lw_at lw_m4 168 rfl) rfl
theorem q1303 : (Jvm.Cond.instantiable "AntennaTuner$EndOfRange" (7 : Nat)) ∈ lw_all := lw_g (lw_at lw_m6 10 rfl) rfl
theorem q1304 : (Jvm.Cond.castable "AntennaTuner$EndOfRange" "AntennaTuner$EndOfRange") ∈ lw_tbl := lw_at lw_m6 11 rfl
theorem q1305 : (Jvm.Cond.selects "AntennaTuner$EndOfRange" ({ cls := "java/lang/Throwable", name := "fillInStackTrace", desc := "(I)Ljava/lang/Throwable;" } : Jvm.MethodName) ({ cls := "java/lang/Throwable", name := "fillInStackTrace", desc := "(I)Ljava/lang/Throwable;" } : Jvm.MethodName)) ∈ lw_all := lw_g (lw_at lw_m6 12 rfl) rfl
theorem q1306 : (Jvm.Cond.lays "AntennaTuner$EndOfRange" "java/lang/Throwable" "cause" "Ljava/lang/Throwable;") ∈ lw_all := lw_g (lw_at lw_m6 13 rfl) rfl
theorem q1307 : (Jvm.Cond.lays "AntennaTuner$EndOfRange" "java/lang/Throwable" "stackTrace" "[Ljava/lang/StackTraceElement;") ∈ lw_all := lw_g (lw_at lw_m6 14 rfl) rfl
theorem q1308 : (Jvm.Cond.lays "AntennaTuner$EndOfRange" "java/lang/Throwable" "suppressedExceptions" "Ljava/util/List;") ∈ lw_all := lw_g (lw_at lw_m6 15 rfl) rfl
theorem q1309 : (Jvm.Cond.lays "AntennaTuner$EndOfRange" "java/lang/Throwable" "detailMessage" "Ljava/lang/String;") ∈ lw_all := lw_g (lw_at lw_m6 16 rfl) rfl
theorem q1310 : (Jvm.Cond.lays "AntennaTuner$EndOfRange" "java/lang/Throwable" "backtrace" "Ljava/lang/Object;") ∈ lw_all := lw_g (lw_at lw_m6 17 rfl) rfl
theorem q1312 : (Jvm.Cond.instanceMethod ({ cls := "AntennaTuner$EndOfRange", name := "<init>", desc := "(I)V" } : Jvm.MethodName)) ∈ lw_all := lw_g (lw_at lw_m6 19 rfl) rfl
theorem q1313 : (Jvm.Cond.code ({ cls := "AntennaTuner$EndOfRange", name := "<init>", desc := "(I)V" } : Jvm.MethodName) prog_3_method_1_code (2 : Nat) (Option.none : Option Jvm.ClassFile.FieldType)) ∈ lw_all := lw_g (lw_at lw_m6 20 rfl) rfl
theorem q1314 : (Jvm.Cond.methodLink "AntennaTuner$EndOfRange" (1 : Nat) ({ cls := "AntennaTuner$TunerFailure", name := "<init>", desc := "(ILAntennaTuner$TunerFailure;)V" } : Jvm.MethodName)) ∈ lw_all := lw_g (lw_at lw_m6 21 rfl) rfl
theorem q1320 : (Jvm.Cond.laysFinal "AntennaTuner$EndOfRange" "AntennaTuner$TunerFailure" "value" "I") ∈ lw_all := lw_g (lw_at lw_m6 27 rfl) rfl
theorem q1322 : (Jvm.Cond.lays "AntennaTuner$EndOfRange" "java/lang/Throwable" "depth" "I") ∈ lw_all := lw_g (lw_at lw_m6 29 rfl) rfl
theorem q1323 : (Jvm.Cond.superclass "AntennaTuner$EndOfRange" "AntennaTuner$TunerFailure") ∈ lw_all := lw_g (lw_at lw_m6 30 rfl) rfl
theorem q1458 : (Jvm.Cond.selects "AntennaTuner$EndOfRange" ({ cls := "java/lang/Throwable", name := "getCause", desc := "()Ljava/lang/Throwable;" } : Jvm.MethodName) ({ cls := "java/lang/Throwable", name := "getCause", desc := "()Ljava/lang/Throwable;" } : Jvm.MethodName)) ∈ lw_all := lw_g (lw_at lw_m6 165 rfl) rfl
theorem q1478 : (Jvm.Cond.selects "AntennaTuner$EndOfRange" ({ cls := "AntennaTuner$TunerFailure", name := "kind", desc := "()I" } : Jvm.MethodName) ({ cls := "AntennaTuner$EndOfRange", name := "kind", desc := "()I" } : Jvm.MethodName)) ∈ lw_all := lw_g (lw_at lw_m6 185 rfl) rfl
theorem q1479 : (Jvm.Cond.instanceMethod ({ cls := "AntennaTuner$EndOfRange", name := "kind", desc := "()I" } : Jvm.MethodName)) ∈ lw_all := lw_g (lw_at lw_m6 186 rfl) rfl
theorem q1480 : (Jvm.Cond.code ({ cls := "AntennaTuner$EndOfRange", name := "kind", desc := "()I" } : Jvm.MethodName) prog_3_method_2_code (1 : Nat) (Option.some Jvm.ClassFile.FieldType.int)) ∈ lw_all := lw_g (lw_at lw_m6 187 rfl) rfl
theorem q2203 : (Jvm.Cond.castable "AntennaTuner$EndOfRange" "AntennaTuner$TunerFailure") ∈ lw_tbl := lw_at lw_m9 190 rfl
theorem q2225 : (Jvm.Cond.castable "AntennaTuner$EndOfRange" "java/lang/Object") ∈ lw_tbl := lw_at lw_m9 212 rfl
theorem in_X11 : ∀ w ∈ wsX110, w ∈ lw_all := lw_in wsX110 [1320, 1306, 1307, 1308, 1309, 1310, 1322] (by decide +kernel) (by decide +kernel)
/-! AntennaTuner$SearchFailure -/
set_option maxRecDepth 100000
def RX12 : String := "AntennaTuner$SearchFailure"
def TX12 : u_T := fun k => match k with
  | 0 => ("AntennaTuner$TunerFailure", "value", "I", true)
  | 1 => ("java/lang/Throwable", "cause", "Ljava/lang/Throwable;", false)
  | 2 => ("java/lang/Throwable", "stackTrace", "[Ljava/lang/StackTraceElement;", false)
  | 3 => ("java/lang/Throwable", "suppressedExceptions", "Ljava/util/List;", false)
  | 4 => ("java/lang/Throwable", "detailMessage", "Ljava/lang/String;", false)
  | 5 => ("java/lang/Throwable", "backtrace", "Ljava/lang/Object;", false)
  | _ => ("java/lang/Throwable", "depth", "I", false)
def tyX12 : Nat → FieldType := fun k => match k with
  | 0 => .int
  | 1 => .object "java/lang/Throwable"
  | 2 => .array (.object "java/lang/StackTraceElement")
  | 3 => .object "java/util/List"
  | 4 => .object "java/lang/String"
  | 5 => .object "java/lang/Object"
  | _ => .int
abbrev wsX120 : List Cond := u_ws RX12 TX12 7
theorem nmX12 : ∀ a, a < 7 → ∀ b, b < 7 → a ≠ b → (TX12 a).2.1 ≠ (TX12 b).2.1 := by decide +kernel
theorem tyX12_ok : ∀ k, k < 7 → parseFieldDescriptor (TX12 k).2.2.1 = some (tyX12 k) := by decide +kernel
abbrev cX12_init : ByteArray := prog_13_method_1_code
def yX12_init : MethodName := ⟨RX12, "<init>", "(ILAntennaTuner$TunerFailure;)V"⟩
def dkwX12_init_0 : List UInt8 := [42, 27, 44, 183, 0, 1, 177]
abbrev dktX12_init_0 : List UInt8 := dkwX12_init_0 ++ []
theorem dksX12_init_0 : cX12_init.data.toList.drop 0 = dktX12_init_0 := by decide +kernel
theorem dX12_init_0 : decode cX12_init 0 = .ok (.aload_n 0, 1) := dk_42 (dk_at dksX12_init_0 0 rfl rfl)
theorem dX12_init_1 : decode cX12_init 1 = .ok (.iload_n 1, 1) := dk_27 (dk_at dksX12_init_0 1 rfl rfl)
theorem dX12_init_2 : decode cX12_init 2 = .ok (.aload_n 2, 1) := dk_44 (dk_at dksX12_init_0 2 rfl rfl)
theorem dX12_init_3 : decode cX12_init 3 = .ok (.invokespecial 1, 3) := dk_183 0 1 (dk_at dksX12_init_0 3 rfl rfl)
theorem dX12_init_6 : decode cX12_init 6 = .ok (.return_, 1) := dk_177 (dk_at dksX12_init_0 6 rfl rfl)
abbrev cX12_kind : ByteArray := prog_13_method_2_code
def yX12_kind : MethodName := ⟨RX12, "kind", "()I"⟩
theorem dX12_kind_0 : decode cX12_kind 0 = .ok (.iconst 1, 1) := by decide +kernel
theorem dX12_kind_1 : decode cX12_kind 1 = .ok (.ireturn, 1) := by decide +kernel
theorem q124 : (Jvm.Cond.initialized "AntennaTuner$SearchFailure") ∈ lw_all := lw_g (lw_at lw_m1 31 rfl) rfl
theorem q716 : (Jvm.Cond.selects "AntennaTuner$SearchFailure" ({ cls := "java/lang/Throwable", name := "fillInStackTrace", desc := "()Ljava/lang/Throwable;" } : Jvm.MethodName) ({ cls := "java/lang/Throwable", name := "fillInStackTrace", desc := "()Ljava/lang/Throwable;" } : Jvm.MethodName)) ∈ lw_all := lw_g (lw_at lw_m3 143 rfl) rfl
theorem q990 : (Jvm.Cond.selects "AntennaTuner$SearchFailure" ({ cls := "java/lang/Object", name := "getClass", desc := "()Ljava/lang/Class;" } : Jvm.MethodName) ({ cls := "java/lang/Object", name := "getClass", desc := "()Ljava/lang/Class;" } : Jvm.MethodName)) ∈ lw_all := lw_g (lw_at lw_m4 177 rfl) rfl
theorem q1325 : (Jvm.Cond.instantiable "AntennaTuner$SearchFailure" (7 : Nat)) ∈ lw_all := lw_g (lw_at lw_m6 32 rfl) rfl
theorem q1326 : (Jvm.Cond.castable "AntennaTuner$SearchFailure" "AntennaTuner$SearchFailure") ∈ lw_tbl := lw_at lw_m6 33 rfl
theorem q1327 : (Jvm.Cond.selects "AntennaTuner$SearchFailure" ({ cls := "java/lang/Throwable", name := "fillInStackTrace", desc := "(I)Ljava/lang/Throwable;" } : Jvm.MethodName) ({ cls := "java/lang/Throwable", name := "fillInStackTrace", desc := "(I)Ljava/lang/Throwable;" } : Jvm.MethodName)) ∈ lw_all := lw_g (lw_at lw_m6 34 rfl) rfl
theorem q1328 : (Jvm.Cond.lays "AntennaTuner$SearchFailure" "java/lang/Throwable" "cause" "Ljava/lang/Throwable;") ∈ lw_all := lw_g (lw_at lw_m6 35 rfl) rfl
theorem q1329 : (Jvm.Cond.lays "AntennaTuner$SearchFailure" "java/lang/Throwable" "stackTrace" "[Ljava/lang/StackTraceElement;") ∈ lw_all := lw_g (lw_at lw_m6 36 rfl) rfl
theorem q1330 : (Jvm.Cond.lays "AntennaTuner$SearchFailure" "java/lang/Throwable" "suppressedExceptions" "Ljava/util/List;") ∈ lw_all := lw_g (lw_at lw_m6 37 rfl) rfl
theorem q1331 : (Jvm.Cond.lays "AntennaTuner$SearchFailure" "java/lang/Throwable" "detailMessage" "Ljava/lang/String;") ∈ lw_all := lw_g (lw_at lw_m6 38 rfl) rfl
theorem q1332 : (Jvm.Cond.lays "AntennaTuner$SearchFailure" "java/lang/Throwable" "backtrace" "Ljava/lang/Object;") ∈ lw_all := lw_g (lw_at lw_m6 39 rfl) rfl
theorem q1334 : (Jvm.Cond.instanceMethod ({ cls := "AntennaTuner$SearchFailure", name := "<init>", desc := "(ILAntennaTuner$TunerFailure;)V" } : Jvm.MethodName)) ∈ lw_all := lw_g (lw_at lw_m6 41 rfl) rfl
theorem q1335 : (Jvm.Cond.code ({ cls := "AntennaTuner$SearchFailure", name := "<init>", desc := "(ILAntennaTuner$TunerFailure;)V" } : Jvm.MethodName) prog_13_method_1_code (3 : Nat) (Option.none : Option Jvm.ClassFile.FieldType)) ∈ lw_all := lw_g (lw_at lw_m6 42 rfl) rfl
theorem q1336 : (Jvm.Cond.methodLink "AntennaTuner$SearchFailure" (1 : Nat) ({ cls := "AntennaTuner$TunerFailure", name := "<init>", desc := "(ILAntennaTuner$TunerFailure;)V" } : Jvm.MethodName)) ∈ lw_all := lw_g (lw_at lw_m6 43 rfl) rfl
theorem q1337 : (Jvm.Cond.laysFinal "AntennaTuner$SearchFailure" "AntennaTuner$TunerFailure" "value" "I") ∈ lw_all := lw_g (lw_at lw_m6 44 rfl) rfl
theorem q1338 : (Jvm.Cond.lays "AntennaTuner$SearchFailure" "java/lang/Throwable" "depth" "I") ∈ lw_all := lw_g (lw_at lw_m6 45 rfl) rfl
theorem q1339 : (Jvm.Cond.superclass "AntennaTuner$SearchFailure" "AntennaTuner$TunerFailure") ∈ lw_all := lw_g (lw_at lw_m6 46 rfl) rfl
theorem q1463 : (Jvm.Cond.selects "AntennaTuner$SearchFailure" ({ cls := "java/lang/Throwable", name := "getCause", desc := "()Ljava/lang/Throwable;" } : Jvm.MethodName) ({ cls := "java/lang/Throwable", name := "getCause", desc := "()Ljava/lang/Throwable;" } : Jvm.MethodName)) ∈ lw_all := lw_g (lw_at lw_m6 170 rfl) rfl
theorem q1493 : (Jvm.Cond.selects "AntennaTuner$SearchFailure" ({ cls := "AntennaTuner$TunerFailure", name := "kind", desc := "()I" } : Jvm.MethodName) ({ cls := "AntennaTuner$SearchFailure", name := "kind", desc := "()I" } : Jvm.MethodName)) ∈ lw_all := lw_g (lw_at lw_m6 200 rfl) rfl
theorem q1494 : (Jvm.Cond.instanceMethod ({ cls := "AntennaTuner$SearchFailure", name := "kind", desc := "()I" } : Jvm.MethodName)) ∈ lw_all := lw_g (lw_at lw_m6 201 rfl) rfl
theorem q1495 : (Jvm.Cond.code ({ cls := "AntennaTuner$SearchFailure", name := "kind", desc := "()I" } : Jvm.MethodName) prog_13_method_2_code (1 : Nat) (Option.some Jvm.ClassFile.FieldType.int)) ∈ lw_all := lw_g (lw_at lw_m6 202 rfl) rfl
theorem q2208 : (Jvm.Cond.castable "AntennaTuner$SearchFailure" "AntennaTuner$TunerFailure") ∈ lw_tbl := lw_at lw_m9 195 rfl
theorem q2226 : (Jvm.Cond.castable "AntennaTuner$SearchFailure" "java/lang/Object") ∈ lw_tbl := lw_at lw_m9 213 rfl
theorem in_X12 : ∀ w ∈ wsX120, w ∈ lw_all := lw_in wsX120 [1337, 1328, 1329, 1330, 1331, 1332, 1338] (by decide +kernel) (by decide +kernel)
/-! AntennaTuner$Overload -/
set_option maxRecDepth 100000
def RX13 : String := "AntennaTuner$Overload"
def TX13 : u_T := fun k => match k with
  | 0 => ("AntennaTuner$TunerFailure", "value", "I", true)
  | 1 => ("java/lang/Throwable", "cause", "Ljava/lang/Throwable;", false)
  | 2 => ("java/lang/Throwable", "stackTrace", "[Ljava/lang/StackTraceElement;", false)
  | 3 => ("java/lang/Throwable", "suppressedExceptions", "Ljava/util/List;", false)
  | 4 => ("java/lang/Throwable", "detailMessage", "Ljava/lang/String;", false)
  | 5 => ("java/lang/Throwable", "backtrace", "Ljava/lang/Object;", false)
  | _ => ("java/lang/Throwable", "depth", "I", false)
def tyX13 : Nat → FieldType := fun k => match k with
  | 0 => .int
  | 1 => .object "java/lang/Throwable"
  | 2 => .array (.object "java/lang/StackTraceElement")
  | 3 => .object "java/util/List"
  | 4 => .object "java/lang/String"
  | 5 => .object "java/lang/Object"
  | _ => .int
abbrev wsX130 : List Cond := u_ws RX13 TX13 7
theorem nmX13 : ∀ a, a < 7 → ∀ b, b < 7 → a ≠ b → (TX13 a).2.1 ≠ (TX13 b).2.1 := by decide +kernel
theorem tyX13_ok : ∀ k, k < 7 → parseFieldDescriptor (TX13 k).2.2.1 = some (tyX13 k) := by decide +kernel
abbrev cX13_init : ByteArray := prog_10_method_1_code
def yX13_init : MethodName := ⟨RX13, "<init>", "(ILAntennaTuner$TunerFailure;)V"⟩
def dkwX13_init_0 : List UInt8 := [42, 27, 44, 183, 0, 1, 177]
abbrev dktX13_init_0 : List UInt8 := dkwX13_init_0 ++ []
theorem dksX13_init_0 : cX13_init.data.toList.drop 0 = dktX13_init_0 := by decide +kernel
theorem dX13_init_0 : decode cX13_init 0 = .ok (.aload_n 0, 1) := dk_42 (dk_at dksX13_init_0 0 rfl rfl)
theorem dX13_init_1 : decode cX13_init 1 = .ok (.iload_n 1, 1) := dk_27 (dk_at dksX13_init_0 1 rfl rfl)
theorem dX13_init_2 : decode cX13_init 2 = .ok (.aload_n 2, 1) := dk_44 (dk_at dksX13_init_0 2 rfl rfl)
theorem dX13_init_3 : decode cX13_init 3 = .ok (.invokespecial 1, 3) := dk_183 0 1 (dk_at dksX13_init_0 3 rfl rfl)
theorem dX13_init_6 : decode cX13_init 6 = .ok (.return_, 1) := dk_177 (dk_at dksX13_init_0 6 rfl rfl)
abbrev cX13_kind : ByteArray := prog_10_method_2_code
def yX13_kind : MethodName := ⟨RX13, "kind", "()I"⟩
theorem dX13_kind_0 : decode cX13_kind 0 = .ok (.iconst 3, 1) := by decide +kernel
theorem dX13_kind_1 : decode cX13_kind 1 = .ok (.ireturn, 1) := by decide +kernel
theorem q125 : (Jvm.Cond.initialized "AntennaTuner$Overload") ∈ lw_all := lw_g (lw_at lw_m1 32 rfl) rfl
theorem q715 : (Jvm.Cond.selects "AntennaTuner$Overload" ({ cls := "java/lang/Throwable", name := "fillInStackTrace", desc := "()Ljava/lang/Throwable;" } : Jvm.MethodName) ({ cls := "java/lang/Throwable", name := "fillInStackTrace", desc := "()Ljava/lang/Throwable;" } : Jvm.MethodName)) ∈ lw_all := lw_g (lw_at lw_m3 142 rfl) rfl
theorem q987 : (Jvm.Cond.selects "AntennaTuner$Overload" ({ cls := "java/lang/Object", name := "getClass", desc := "()Ljava/lang/Class;" } : Jvm.MethodName) ({ cls := "java/lang/Object", name := "getClass", desc := "()Ljava/lang/Class;" } : Jvm.MethodName)) ∈ lw_all := lw_g (lw_at lw_m4 174 rfl) rfl
theorem q1347 : (Jvm.Cond.instantiable "AntennaTuner$Overload" (7 : Nat)) ∈ lw_all := lw_g (lw_at lw_m6 54 rfl) rfl
theorem q1348 : (Jvm.Cond.castable "AntennaTuner$Overload" "AntennaTuner$Overload") ∈ lw_tbl := lw_at lw_m6 55 rfl
theorem q1349 : (Jvm.Cond.selects "AntennaTuner$Overload" ({ cls := "java/lang/Throwable", name := "fillInStackTrace", desc := "(I)Ljava/lang/Throwable;" } : Jvm.MethodName) ({ cls := "java/lang/Throwable", name := "fillInStackTrace", desc := "(I)Ljava/lang/Throwable;" } : Jvm.MethodName)) ∈ lw_all := lw_g (lw_at lw_m6 56 rfl) rfl
theorem q1350 : (Jvm.Cond.lays "AntennaTuner$Overload" "java/lang/Throwable" "cause" "Ljava/lang/Throwable;") ∈ lw_all := lw_g (lw_at lw_m6 57 rfl) rfl
theorem q1351 : (Jvm.Cond.lays "AntennaTuner$Overload" "java/lang/Throwable" "stackTrace" "[Ljava/lang/StackTraceElement;") ∈ lw_all := lw_g (lw_at lw_m6 58 rfl) rfl
theorem q1352 : (Jvm.Cond.lays "AntennaTuner$Overload" "java/lang/Throwable" "suppressedExceptions" "Ljava/util/List;") ∈ lw_all := lw_g (lw_at lw_m6 59 rfl) rfl
theorem q1353 : (Jvm.Cond.lays "AntennaTuner$Overload" "java/lang/Throwable" "detailMessage" "Ljava/lang/String;") ∈ lw_all := lw_g (lw_at lw_m6 60 rfl) rfl
theorem q1354 : (Jvm.Cond.lays "AntennaTuner$Overload" "java/lang/Throwable" "backtrace" "Ljava/lang/Object;") ∈ lw_all := lw_g (lw_at lw_m6 61 rfl) rfl
theorem q1373 : (Jvm.Cond.instanceMethod ({ cls := "AntennaTuner$Overload", name := "<init>", desc := "(ILAntennaTuner$TunerFailure;)V" } : Jvm.MethodName)) ∈ lw_all := lw_g (lw_at lw_m6 80 rfl) rfl
theorem q1374 : (Jvm.Cond.code ({ cls := "AntennaTuner$Overload", name := "<init>", desc := "(ILAntennaTuner$TunerFailure;)V" } : Jvm.MethodName) prog_10_method_1_code (3 : Nat) (Option.none : Option Jvm.ClassFile.FieldType)) ∈ lw_all := lw_g (lw_at lw_m6 81 rfl) rfl
theorem q1375 : (Jvm.Cond.methodLink "AntennaTuner$Overload" (1 : Nat) ({ cls := "AntennaTuner$TunerFailure", name := "<init>", desc := "(ILAntennaTuner$TunerFailure;)V" } : Jvm.MethodName)) ∈ lw_all := lw_g (lw_at lw_m6 82 rfl) rfl
theorem q1376 : (Jvm.Cond.laysFinal "AntennaTuner$Overload" "AntennaTuner$TunerFailure" "value" "I") ∈ lw_all := lw_g (lw_at lw_m6 83 rfl) rfl
theorem q1377 : (Jvm.Cond.lays "AntennaTuner$Overload" "java/lang/Throwable" "depth" "I") ∈ lw_all := lw_g (lw_at lw_m6 84 rfl) rfl
theorem q1378 : (Jvm.Cond.superclass "AntennaTuner$Overload" "AntennaTuner$TunerFailure") ∈ lw_all := lw_g (lw_at lw_m6 85 rfl) rfl
theorem q1462 : (Jvm.Cond.selects "AntennaTuner$Overload" ({ cls := "java/lang/Throwable", name := "getCause", desc := "()Ljava/lang/Throwable;" } : Jvm.MethodName) ({ cls := "java/lang/Throwable", name := "getCause", desc := "()Ljava/lang/Throwable;" } : Jvm.MethodName)) ∈ lw_all := lw_g (lw_at lw_m6 169 rfl) rfl
theorem q1490 : (Jvm.Cond.selects "AntennaTuner$Overload" ({ cls := "AntennaTuner$TunerFailure", name := "kind", desc := "()I" } : Jvm.MethodName) ({ cls := "AntennaTuner$Overload", name := "kind", desc := "()I" } : Jvm.MethodName)) ∈ lw_all := lw_g (lw_at lw_m6 197 rfl) rfl
theorem q1491 : (Jvm.Cond.instanceMethod ({ cls := "AntennaTuner$Overload", name := "kind", desc := "()I" } : Jvm.MethodName)) ∈ lw_all := lw_g (lw_at lw_m6 198 rfl) rfl
theorem q1492 : (Jvm.Cond.code ({ cls := "AntennaTuner$Overload", name := "kind", desc := "()I" } : Jvm.MethodName) prog_10_method_2_code (1 : Nat) (Option.some Jvm.ClassFile.FieldType.int)) ∈ lw_all := lw_g (lw_at lw_m6 199 rfl) rfl
theorem q2207 : (Jvm.Cond.castable "AntennaTuner$Overload" "AntennaTuner$TunerFailure") ∈ lw_tbl := lw_at lw_m9 194 rfl
theorem q2227 : (Jvm.Cond.castable "AntennaTuner$Overload" "java/lang/Object") ∈ lw_tbl := lw_at lw_m9 214 rfl
theorem in_X13 : ∀ w ∈ wsX130, w ∈ lw_all := lw_in wsX130 [1376, 1350, 1351, 1352, 1353, 1354, 1377] (by decide +kernel) (by decide +kernel)
/-! AntennaTuner$LossyCoil -/
set_option maxRecDepth 100000
def RX14 : String := "AntennaTuner$LossyCoil"
def TX14 : u_T := fun k => match k with
  | 0 => ("AntennaTuner$TunerFailure", "value", "I", true)
  | 1 => ("java/lang/Throwable", "cause", "Ljava/lang/Throwable;", false)
  | 2 => ("java/lang/Throwable", "stackTrace", "[Ljava/lang/StackTraceElement;", false)
  | 3 => ("java/lang/Throwable", "suppressedExceptions", "Ljava/util/List;", false)
  | 4 => ("java/lang/Throwable", "detailMessage", "Ljava/lang/String;", false)
  | 5 => ("java/lang/Throwable", "backtrace", "Ljava/lang/Object;", false)
  | _ => ("java/lang/Throwable", "depth", "I", false)
def tyX14 : Nat → FieldType := fun k => match k with
  | 0 => .int
  | 1 => .object "java/lang/Throwable"
  | 2 => .array (.object "java/lang/StackTraceElement")
  | 3 => .object "java/util/List"
  | 4 => .object "java/lang/String"
  | 5 => .object "java/lang/Object"
  | _ => .int
abbrev wsX140 : List Cond := u_ws RX14 TX14 7
theorem nmX14 : ∀ a, a < 7 → ∀ b, b < 7 → a ≠ b → (TX14 a).2.1 ≠ (TX14 b).2.1 := by decide +kernel
theorem tyX14_ok : ∀ k, k < 7 → parseFieldDescriptor (TX14 k).2.2.1 = some (tyX14 k) := by decide +kernel
abbrev cX14_init : ByteArray := prog_6_method_1_code
def yX14_init : MethodName := ⟨RX14, "<init>", "(I)V"⟩
def dkwX14_init_0 : List UInt8 := [42, 27, 1, 183, 0, 1, 177]
abbrev dktX14_init_0 : List UInt8 := dkwX14_init_0 ++ []
theorem dksX14_init_0 : cX14_init.data.toList.drop 0 = dktX14_init_0 := by decide +kernel
theorem dX14_init_0 : decode cX14_init 0 = .ok (.aload_n 0, 1) := dk_42 (dk_at dksX14_init_0 0 rfl rfl)
theorem dX14_init_1 : decode cX14_init 1 = .ok (.iload_n 1, 1) := dk_27 (dk_at dksX14_init_0 1 rfl rfl)
theorem dX14_init_2 : decode cX14_init 2 = .ok (.aconst_null, 1) := dk_1 (dk_at dksX14_init_0 2 rfl rfl)
theorem dX14_init_3 : decode cX14_init 3 = .ok (.invokespecial 1, 3) := dk_183 0 1 (dk_at dksX14_init_0 3 rfl rfl)
theorem dX14_init_6 : decode cX14_init 6 = .ok (.return_, 1) := dk_177 (dk_at dksX14_init_0 6 rfl rfl)
abbrev cX14_kind : ByteArray := prog_6_method_2_code
def yX14_kind : MethodName := ⟨RX14, "kind", "()I"⟩
theorem dX14_kind_0 : decode cX14_kind 0 = .ok (.iconst 4, 1) := by decide +kernel
theorem dX14_kind_1 : decode cX14_kind 1 = .ok (.ireturn, 1) := by decide +kernel
theorem q126 : (Jvm.Cond.initialized "AntennaTuner$LossyCoil") ∈ lw_all := lw_g (lw_at lw_m1 33 rfl) rfl
theorem q712 : (Jvm.Cond.selects "AntennaTuner$LossyCoil" ({ cls := "java/lang/Throwable", name := "fillInStackTrace", desc := "()Ljava/lang/Throwable;" } : Jvm.MethodName) ({ cls := "java/lang/Throwable", name := "fillInStackTrace", desc := "()Ljava/lang/Throwable;" } : Jvm.MethodName)) ∈ lw_all := lw_g (lw_at lw_m3 139 rfl) rfl
theorem q984 : (Jvm.Cond.selects "AntennaTuner$LossyCoil" ({ cls := "java/lang/Object", name := "getClass", desc := "()Ljava/lang/Class;" } : Jvm.MethodName) ({ cls := "java/lang/Object", name := "getClass", desc := "()Ljava/lang/Class;" } : Jvm.MethodName)) ∈ lw_all := lw_g (lw_at lw_m4 171 rfl) rfl
theorem q1357 : (Jvm.Cond.instantiable "AntennaTuner$LossyCoil" (7 : Nat)) ∈ lw_all := lw_g (lw_at lw_m6 64 rfl) rfl
theorem q1358 : (Jvm.Cond.castable "AntennaTuner$LossyCoil" "AntennaTuner$LossyCoil") ∈ lw_tbl := lw_at lw_m6 65 rfl
theorem q1359 : (Jvm.Cond.selects "AntennaTuner$LossyCoil" ({ cls := "java/lang/Throwable", name := "fillInStackTrace", desc := "(I)Ljava/lang/Throwable;" } : Jvm.MethodName) ({ cls := "java/lang/Throwable", name := "fillInStackTrace", desc := "(I)Ljava/lang/Throwable;" } : Jvm.MethodName)) ∈ lw_all := lw_g (lw_at lw_m6 66 rfl) rfl
theorem q1360 : (Jvm.Cond.lays "AntennaTuner$LossyCoil" "java/lang/Throwable" "cause" "Ljava/lang/Throwable;") ∈ lw_all := lw_g (lw_at lw_m6 67 rfl) rfl
theorem q1361 : (Jvm.Cond.lays "AntennaTuner$LossyCoil" "java/lang/Throwable" "stackTrace" "[Ljava/lang/StackTraceElement;") ∈ lw_all := lw_g (lw_at lw_m6 68 rfl) rfl
theorem q1362 : (Jvm.Cond.lays "AntennaTuner$LossyCoil" "java/lang/Throwable" "suppressedExceptions" "Ljava/util/List;") ∈ lw_all := lw_g (lw_at lw_m6 69 rfl) rfl
theorem q1363 : (Jvm.Cond.lays "AntennaTuner$LossyCoil" "java/lang/Throwable" "detailMessage" "Ljava/lang/String;") ∈ lw_all := lw_g (lw_at lw_m6 70 rfl) rfl
theorem q1364 : (Jvm.Cond.lays "AntennaTuner$LossyCoil" "java/lang/Throwable" "backtrace" "Ljava/lang/Object;") ∈ lw_all := lw_g (lw_at lw_m6 71 rfl) rfl
theorem q1366 : (Jvm.Cond.instanceMethod ({ cls := "AntennaTuner$LossyCoil", name := "<init>", desc := "(I)V" } : Jvm.MethodName)) ∈ lw_all := lw_g (lw_at lw_m6 73 rfl) rfl
theorem q1367 : (Jvm.Cond.code ({ cls := "AntennaTuner$LossyCoil", name := "<init>", desc := "(I)V" } : Jvm.MethodName) prog_6_method_1_code (2 : Nat) (Option.none : Option Jvm.ClassFile.FieldType)) ∈ lw_all := lw_g (lw_at lw_m6 74 rfl) rfl
theorem q1368 : (Jvm.Cond.methodLink "AntennaTuner$LossyCoil" (1 : Nat) ({ cls := "AntennaTuner$TunerFailure", name := "<init>", desc := "(ILAntennaTuner$TunerFailure;)V" } : Jvm.MethodName)) ∈ lw_all := lw_g (lw_at lw_m6 75 rfl) rfl
theorem q1369 : (Jvm.Cond.laysFinal "AntennaTuner$LossyCoil" "AntennaTuner$TunerFailure" "value" "I") ∈ lw_all := lw_g (lw_at lw_m6 76 rfl) rfl
theorem q1370 : (Jvm.Cond.lays "AntennaTuner$LossyCoil" "java/lang/Throwable" "depth" "I") ∈ lw_all := lw_g (lw_at lw_m6 77 rfl) rfl
theorem q1371 : (Jvm.Cond.superclass "AntennaTuner$LossyCoil" "AntennaTuner$TunerFailure") ∈ lw_all := lw_g (lw_at lw_m6 78 rfl) rfl
theorem q1459 : (Jvm.Cond.selects "AntennaTuner$LossyCoil" ({ cls := "java/lang/Throwable", name := "getCause", desc := "()Ljava/lang/Throwable;" } : Jvm.MethodName) ({ cls := "java/lang/Throwable", name := "getCause", desc := "()Ljava/lang/Throwable;" } : Jvm.MethodName)) ∈ lw_all := lw_g (lw_at lw_m6 166 rfl) rfl
theorem q1481 : (Jvm.Cond.selects "AntennaTuner$LossyCoil" ({ cls := "AntennaTuner$TunerFailure", name := "kind", desc := "()I" } : Jvm.MethodName) ({ cls := "AntennaTuner$LossyCoil", name := "kind", desc := "()I" } : Jvm.MethodName)) ∈ lw_all := lw_g (lw_at lw_m6 188 rfl) rfl
theorem q1482 : (Jvm.Cond.instanceMethod ({ cls := "AntennaTuner$LossyCoil", name := "kind", desc := "()I" } : Jvm.MethodName)) ∈ lw_all := lw_g (lw_at lw_m6 189 rfl) rfl
theorem q1483 : (Jvm.Cond.code ({ cls := "AntennaTuner$LossyCoil", name := "kind", desc := "()I" } : Jvm.MethodName) prog_6_method_2_code (1 : Nat) (Option.some Jvm.ClassFile.FieldType.int)) ∈ lw_all := lw_g (lw_at lw_m6 190 rfl) rfl
theorem q2204 : (Jvm.Cond.castable "AntennaTuner$LossyCoil" "AntennaTuner$TunerFailure") ∈ lw_tbl := lw_at lw_m9 191 rfl
theorem q2228 : (Jvm.Cond.castable "AntennaTuner$LossyCoil" "java/lang/Object") ∈ lw_tbl := lw_at lw_m9 215 rfl
theorem in_X14 : ∀ w ∈ wsX140, w ∈ lw_all := lw_in wsX140 [1369, 1360, 1361, 1362, 1363, 1364, 1370] (by decide +kernel) (by decide +kernel)
/-! AntennaTuner$NothingStored -/
set_option maxRecDepth 100000
def RX15 : String := "AntennaTuner$NothingStored"
def TX15 : u_T := fun k => match k with
  | 0 => ("AntennaTuner$TunerFailure", "value", "I", true)
  | 1 => ("java/lang/Throwable", "cause", "Ljava/lang/Throwable;", false)
  | 2 => ("java/lang/Throwable", "stackTrace", "[Ljava/lang/StackTraceElement;", false)
  | 3 => ("java/lang/Throwable", "suppressedExceptions", "Ljava/util/List;", false)
  | 4 => ("java/lang/Throwable", "detailMessage", "Ljava/lang/String;", false)
  | 5 => ("java/lang/Throwable", "backtrace", "Ljava/lang/Object;", false)
  | _ => ("java/lang/Throwable", "depth", "I", false)
def tyX15 : Nat → FieldType := fun k => match k with
  | 0 => .int
  | 1 => .object "java/lang/Throwable"
  | 2 => .array (.object "java/lang/StackTraceElement")
  | 3 => .object "java/util/List"
  | 4 => .object "java/lang/String"
  | 5 => .object "java/lang/Object"
  | _ => .int
abbrev wsX150 : List Cond := u_ws RX15 TX15 7
theorem nmX15 : ∀ a, a < 7 → ∀ b, b < 7 → a ≠ b → (TX15 a).2.1 ≠ (TX15 b).2.1 := by decide +kernel
theorem tyX15_ok : ∀ k, k < 7 → parseFieldDescriptor (TX15 k).2.2.1 = some (tyX15 k) := by decide +kernel
abbrev cX15_init : ByteArray := prog_9_method_1_code
def yX15_init : MethodName := ⟨RX15, "<init>", "(ILAntennaTuner$TunerFailure;)V"⟩
def dkwX15_init_0 : List UInt8 := [42, 27, 44, 183, 0, 1, 177]
abbrev dktX15_init_0 : List UInt8 := dkwX15_init_0 ++ []
theorem dksX15_init_0 : cX15_init.data.toList.drop 0 = dktX15_init_0 := by decide +kernel
theorem dX15_init_0 : decode cX15_init 0 = .ok (.aload_n 0, 1) := dk_42 (dk_at dksX15_init_0 0 rfl rfl)
theorem dX15_init_1 : decode cX15_init 1 = .ok (.iload_n 1, 1) := dk_27 (dk_at dksX15_init_0 1 rfl rfl)
theorem dX15_init_2 : decode cX15_init 2 = .ok (.aload_n 2, 1) := dk_44 (dk_at dksX15_init_0 2 rfl rfl)
theorem dX15_init_3 : decode cX15_init 3 = .ok (.invokespecial 1, 3) := dk_183 0 1 (dk_at dksX15_init_0 3 rfl rfl)
theorem dX15_init_6 : decode cX15_init 6 = .ok (.return_, 1) := dk_177 (dk_at dksX15_init_0 6 rfl rfl)
abbrev cX15_kind : ByteArray := prog_9_method_2_code
def yX15_kind : MethodName := ⟨RX15, "kind", "()I"⟩
theorem dX15_kind_0 : decode cX15_kind 0 = .ok (.iconst 5, 1) := by decide +kernel
theorem dX15_kind_1 : decode cX15_kind 1 = .ok (.ireturn, 1) := by decide +kernel
theorem q127 : (Jvm.Cond.initialized "AntennaTuner$NothingStored") ∈ lw_all := lw_g (lw_at lw_m1 34 rfl) rfl
theorem q714 : (Jvm.Cond.selects "AntennaTuner$NothingStored" ({ cls := "java/lang/Throwable", name := "fillInStackTrace", desc := "()Ljava/lang/Throwable;" } : Jvm.MethodName) ({ cls := "java/lang/Throwable", name := "fillInStackTrace", desc := "()Ljava/lang/Throwable;" } : Jvm.MethodName)) ∈ lw_all := lw_g (lw_at lw_m3 141 rfl) rfl
theorem q986 : (Jvm.Cond.selects "AntennaTuner$NothingStored" ({ cls := "java/lang/Object", name := "getClass", desc := "()Ljava/lang/Class;" } : Jvm.MethodName) ({ cls := "java/lang/Object", name := "getClass", desc := "()Ljava/lang/Class;" } : Jvm.MethodName)) ∈ lw_all := lw_g (lw_at lw_m4 173 rfl) rfl
theorem q1406 : (Jvm.Cond.instantiable "AntennaTuner$NothingStored" (7 : Nat)) ∈ lw_all := lw_g (lw_at lw_m6 113 rfl) rfl
theorem q1407 : (Jvm.Cond.castable "AntennaTuner$NothingStored" "AntennaTuner$NothingStored") ∈ lw_tbl := lw_at lw_m6 114 rfl
theorem q1408 : (Jvm.Cond.selects "AntennaTuner$NothingStored" ({ cls := "java/lang/Throwable", name := "fillInStackTrace", desc := "(I)Ljava/lang/Throwable;" } : Jvm.MethodName) ({ cls := "java/lang/Throwable", name := "fillInStackTrace", desc := "(I)Ljava/lang/Throwable;" } : Jvm.MethodName)) ∈ lw_all := lw_g (lw_at lw_m6 115 rfl) rfl
theorem q1409 : (Jvm.Cond.lays "AntennaTuner$NothingStored" "java/lang/Throwable" "cause" "Ljava/lang/Throwable;") ∈ lw_all := lw_g (lw_at lw_m6 116 rfl) rfl
theorem q1410 : (Jvm.Cond.lays "AntennaTuner$NothingStored" "java/lang/Throwable" "stackTrace" "[Ljava/lang/StackTraceElement;") ∈ lw_all := lw_g (lw_at lw_m6 117 rfl) rfl
theorem q1411 : (Jvm.Cond.lays "AntennaTuner$NothingStored" "java/lang/Throwable" "suppressedExceptions" "Ljava/util/List;") ∈ lw_all := lw_g (lw_at lw_m6 118 rfl) rfl
theorem q1412 : (Jvm.Cond.lays "AntennaTuner$NothingStored" "java/lang/Throwable" "detailMessage" "Ljava/lang/String;") ∈ lw_all := lw_g (lw_at lw_m6 119 rfl) rfl
theorem q1413 : (Jvm.Cond.lays "AntennaTuner$NothingStored" "java/lang/Throwable" "backtrace" "Ljava/lang/Object;") ∈ lw_all := lw_g (lw_at lw_m6 120 rfl) rfl
theorem q1431 : (Jvm.Cond.instanceMethod ({ cls := "AntennaTuner$NothingStored", name := "<init>", desc := "(ILAntennaTuner$TunerFailure;)V" } : Jvm.MethodName)) ∈ lw_all := lw_g (lw_at lw_m6 138 rfl) rfl
theorem q1432 : (Jvm.Cond.code ({ cls := "AntennaTuner$NothingStored", name := "<init>", desc := "(ILAntennaTuner$TunerFailure;)V" } : Jvm.MethodName) prog_9_method_1_code (3 : Nat) (Option.none : Option Jvm.ClassFile.FieldType)) ∈ lw_all := lw_g (lw_at lw_m6 139 rfl) rfl
theorem q1433 : (Jvm.Cond.methodLink "AntennaTuner$NothingStored" (1 : Nat) ({ cls := "AntennaTuner$TunerFailure", name := "<init>", desc := "(ILAntennaTuner$TunerFailure;)V" } : Jvm.MethodName)) ∈ lw_all := lw_g (lw_at lw_m6 140 rfl) rfl
theorem q1434 : (Jvm.Cond.laysFinal "AntennaTuner$NothingStored" "AntennaTuner$TunerFailure" "value" "I") ∈ lw_all := lw_g (lw_at lw_m6 141 rfl) rfl
theorem q1435 : (Jvm.Cond.lays "AntennaTuner$NothingStored" "java/lang/Throwable" "depth" "I") ∈ lw_all := lw_g (lw_at lw_m6 142 rfl) rfl
theorem q1436 : (Jvm.Cond.superclass "AntennaTuner$NothingStored" "AntennaTuner$TunerFailure") ∈ lw_all := lw_g (lw_at lw_m6 143 rfl) rfl
theorem q1461 : (Jvm.Cond.selects "AntennaTuner$NothingStored" ({ cls := "java/lang/Throwable", name := "getCause", desc := "()Ljava/lang/Throwable;" } : Jvm.MethodName) ({ cls := "java/lang/Throwable", name := "getCause", desc := "()Ljava/lang/Throwable;" } : Jvm.MethodName)) ∈ lw_all := lw_g (lw_at lw_m6 168 rfl) rfl
theorem q1487 : (Jvm.Cond.selects "AntennaTuner$NothingStored" ({ cls := "AntennaTuner$TunerFailure", name := "kind", desc := "()I" } : Jvm.MethodName) ({ cls := "AntennaTuner$NothingStored", name := "kind", desc := "()I" } : Jvm.MethodName)) ∈ lw_all := lw_g (lw_at lw_m6 194 rfl) rfl
theorem q1488 : (Jvm.Cond.instanceMethod ({ cls := "AntennaTuner$NothingStored", name := "kind", desc := "()I" } : Jvm.MethodName)) ∈ lw_all := lw_g (lw_at lw_m6 195 rfl) rfl
theorem q1489 : (Jvm.Cond.code ({ cls := "AntennaTuner$NothingStored", name := "kind", desc := "()I" } : Jvm.MethodName) prog_9_method_2_code (1 : Nat) (Option.some Jvm.ClassFile.FieldType.int)) ∈ lw_all := lw_g (lw_at lw_m6 196 rfl) rfl
theorem q2206 : (Jvm.Cond.castable "AntennaTuner$NothingStored" "AntennaTuner$TunerFailure") ∈ lw_tbl := lw_at lw_m9 193 rfl
theorem q2229 : (Jvm.Cond.castable "AntennaTuner$NothingStored" "java/lang/Object") ∈ lw_tbl := lw_at lw_m9 216 rfl
theorem in_X15 : ∀ w ∈ wsX150, w ∈ lw_all := lw_in wsX150 [1434, 1409, 1410, 1411, 1412, 1413, 1435] (by decide +kernel) (by decide +kernel)
/-! AntennaTuner$NoBand -/
set_option maxRecDepth 100000
def RX16 : String := "AntennaTuner$NoBand"
def TX16 : u_T := fun k => match k with
  | 0 => ("AntennaTuner$TunerFailure", "value", "I", true)
  | 1 => ("java/lang/Throwable", "cause", "Ljava/lang/Throwable;", false)
  | 2 => ("java/lang/Throwable", "stackTrace", "[Ljava/lang/StackTraceElement;", false)
  | 3 => ("java/lang/Throwable", "suppressedExceptions", "Ljava/util/List;", false)
  | 4 => ("java/lang/Throwable", "detailMessage", "Ljava/lang/String;", false)
  | 5 => ("java/lang/Throwable", "backtrace", "Ljava/lang/Object;", false)
  | _ => ("java/lang/Throwable", "depth", "I", false)
def tyX16 : Nat → FieldType := fun k => match k with
  | 0 => .int
  | 1 => .object "java/lang/Throwable"
  | 2 => .array (.object "java/lang/StackTraceElement")
  | 3 => .object "java/util/List"
  | 4 => .object "java/lang/String"
  | 5 => .object "java/lang/Object"
  | _ => .int
abbrev wsX160 : List Cond := u_ws RX16 TX16 7
theorem nmX16 : ∀ a, a < 7 → ∀ b, b < 7 → a ≠ b → (TX16 a).2.1 ≠ (TX16 b).2.1 := by decide +kernel
theorem tyX16_ok : ∀ k, k < 7 → parseFieldDescriptor (TX16 k).2.2.1 = some (tyX16 k) := by decide +kernel
abbrev cX16_init : ByteArray := prog_8_method_1_code
def yX16_init : MethodName := ⟨RX16, "<init>", "()V"⟩
def dkwX16_init_0 : List UInt8 := [42, 3, 1, 183, 0, 1, 177]
abbrev dktX16_init_0 : List UInt8 := dkwX16_init_0 ++ []
theorem dksX16_init_0 : cX16_init.data.toList.drop 0 = dktX16_init_0 := by decide +kernel
theorem dX16_init_0 : decode cX16_init 0 = .ok (.aload_n 0, 1) := dk_42 (dk_at dksX16_init_0 0 rfl rfl)
theorem dX16_init_1 : decode cX16_init 1 = .ok (.iconst 0, 1) := dk_3 (dk_at dksX16_init_0 1 rfl rfl)
theorem dX16_init_2 : decode cX16_init 2 = .ok (.aconst_null, 1) := dk_1 (dk_at dksX16_init_0 2 rfl rfl)
theorem dX16_init_3 : decode cX16_init 3 = .ok (.invokespecial 1, 3) := dk_183 0 1 (dk_at dksX16_init_0 3 rfl rfl)
theorem dX16_init_6 : decode cX16_init 6 = .ok (.return_, 1) := dk_177 (dk_at dksX16_init_0 6 rfl rfl)
abbrev cX16_kind : ByteArray := prog_8_method_2_code
def yX16_kind : MethodName := ⟨RX16, "kind", "()I"⟩
theorem dX16_kind_0 : decode cX16_kind 0 = .ok (.bipush 6, 2) := by decide +kernel
theorem dX16_kind_2 : decode cX16_kind 2 = .ok (.ireturn, 1) := by decide +kernel
theorem q128 : (Jvm.Cond.initialized "AntennaTuner$NoBand") ∈ lw_all := lw_g (lw_at lw_m1 35 rfl) rfl
theorem q713 : (Jvm.Cond.selects "AntennaTuner$NoBand" ({ cls := "java/lang/Throwable", name := "fillInStackTrace", desc := "()Ljava/lang/Throwable;" } : Jvm.MethodName) ({ cls := "java/lang/Throwable", name := "fillInStackTrace", desc := "()Ljava/lang/Throwable;" } : Jvm.MethodName)) ∈ lw_all := lw_g (lw_at lw_m3 140 rfl) rfl
theorem q985 : (Jvm.Cond.selects "AntennaTuner$NoBand" ({ cls := "java/lang/Object", name := "getClass", desc := "()Ljava/lang/Class;" } : Jvm.MethodName) ({ cls := "java/lang/Object", name := "getClass", desc := "()Ljava/lang/Class;" } : Jvm.MethodName)) ∈ lw_all := lw_g (lw_at lw_m4 172 rfl) rfl
theorem q1415 : (Jvm.Cond.instantiable "AntennaTuner$NoBand" (7 : Nat)) ∈ lw_all := lw_g (lw_at lw_m6 122 rfl) rfl
theorem q1416 : (Jvm.Cond.castable "AntennaTuner$NoBand" "AntennaTuner$NoBand") ∈ lw_tbl := lw_at lw_m6 123 rfl
theorem q1417 : (Jvm.Cond.selects "AntennaTuner$NoBand" ({ cls := "java/lang/Throwable", name := "fillInStackTrace", desc := "(I)Ljava/lang/Throwable;" } : Jvm.MethodName) ({ cls := "java/lang/Throwable", name := "fillInStackTrace", desc := "(I)Ljava/lang/Throwable;" } : Jvm.MethodName)) ∈ lw_all := lw_g (lw_at lw_m6 124 rfl) rfl
theorem q1418 : (Jvm.Cond.lays "AntennaTuner$NoBand" "java/lang/Throwable" "cause" "Ljava/lang/Throwable;") ∈ lw_all := lw_g (lw_at lw_m6 125 rfl) rfl
theorem q1419 : (Jvm.Cond.lays "AntennaTuner$NoBand" "java/lang/Throwable" "stackTrace" "[Ljava/lang/StackTraceElement;") ∈ lw_all := lw_g (lw_at lw_m6 126 rfl) rfl
theorem q1420 : (Jvm.Cond.lays "AntennaTuner$NoBand" "java/lang/Throwable" "suppressedExceptions" "Ljava/util/List;") ∈ lw_all := lw_g (lw_at lw_m6 127 rfl) rfl
theorem q1421 : (Jvm.Cond.lays "AntennaTuner$NoBand" "java/lang/Throwable" "detailMessage" "Ljava/lang/String;") ∈ lw_all := lw_g (lw_at lw_m6 128 rfl) rfl
theorem q1422 : (Jvm.Cond.lays "AntennaTuner$NoBand" "java/lang/Throwable" "backtrace" "Ljava/lang/Object;") ∈ lw_all := lw_g (lw_at lw_m6 129 rfl) rfl
theorem q1424 : (Jvm.Cond.instanceMethod ({ cls := "AntennaTuner$NoBand", name := "<init>", desc := "()V" } : Jvm.MethodName)) ∈ lw_all := lw_g (lw_at lw_m6 131 rfl) rfl
theorem q1425 : (Jvm.Cond.code ({ cls := "AntennaTuner$NoBand", name := "<init>", desc := "()V" } : Jvm.MethodName) prog_8_method_1_code (1 : Nat) (Option.none : Option Jvm.ClassFile.FieldType)) ∈ lw_all := lw_g (lw_at lw_m6 132 rfl) rfl
theorem q1426 : (Jvm.Cond.methodLink "AntennaTuner$NoBand" (1 : Nat) ({ cls := "AntennaTuner$TunerFailure", name := "<init>", desc := "(ILAntennaTuner$TunerFailure;)V" } : Jvm.MethodName)) ∈ lw_all := lw_g (lw_at lw_m6 133 rfl) rfl
theorem q1427 : (Jvm.Cond.laysFinal "AntennaTuner$NoBand" "AntennaTuner$TunerFailure" "value" "I") ∈ lw_all := lw_g (lw_at lw_m6 134 rfl) rfl
theorem q1428 : (Jvm.Cond.lays "AntennaTuner$NoBand" "java/lang/Throwable" "depth" "I") ∈ lw_all := lw_g (lw_at lw_m6 135 rfl) rfl
theorem q1429 : (Jvm.Cond.superclass "AntennaTuner$NoBand" "AntennaTuner$TunerFailure") ∈ lw_all := lw_g (lw_at lw_m6 136 rfl) rfl
theorem q1460 : (Jvm.Cond.selects "AntennaTuner$NoBand" ({ cls := "java/lang/Throwable", name := "getCause", desc := "()Ljava/lang/Throwable;" } : Jvm.MethodName) ({ cls := "java/lang/Throwable", name := "getCause", desc := "()Ljava/lang/Throwable;" } : Jvm.MethodName)) ∈ lw_all := lw_g (lw_at lw_m6 167 rfl) rfl
theorem q1484 : (Jvm.Cond.selects "AntennaTuner$NoBand" ({ cls := "AntennaTuner$TunerFailure", name := "kind", desc := "()I" } : Jvm.MethodName) ({ cls := "AntennaTuner$NoBand", name := "kind", desc := "()I" } : Jvm.MethodName)) ∈ lw_all := lw_g (lw_at lw_m6 191 rfl) rfl
theorem q1485 : (Jvm.Cond.instanceMethod ({ cls := "AntennaTuner$NoBand", name := "kind", desc := "()I" } : Jvm.MethodName)) ∈ lw_all := lw_g (lw_at lw_m6 192 rfl) rfl
theorem q1486 : (Jvm.Cond.code ({ cls := "AntennaTuner$NoBand", name := "kind", desc := "()I" } : Jvm.MethodName) prog_8_method_2_code (1 : Nat) (Option.some Jvm.ClassFile.FieldType.int)) ∈ lw_all := lw_g (lw_at lw_m6 193 rfl) rfl
theorem q2205 : (Jvm.Cond.castable "AntennaTuner$NoBand" "AntennaTuner$TunerFailure") ∈ lw_tbl := lw_at lw_m9 192 rfl
theorem q2230 : (Jvm.Cond.castable "AntennaTuner$NoBand" "java/lang/Object") ∈ lw_tbl := lw_at lw_m9 217 rfl
theorem in_X16 : ∀ w ∈ wsX160, w ∈ lw_all := lw_in wsX160 [1427, 1418, 1419, 1420, 1421, 1422, 1428] (by decide +kernel) (by decide +kernel)
/-! AntennaTuner$Entry -/
set_option maxRecDepth 100000
def RX17 : String := "AntennaTuner$Entry"
def TX17 : u_T := fun k => match k with
  | 0 => ("AntennaTuner$Entry", "frequency", "I", true)
  | 1 => ("AntennaTuner$Entry", "settings", "I", true)
  | _ => ("AntennaTuner$Entry", "swr", "I", true)
def tyX17 : Nat → FieldType := fun k => match k with
  | 0 => .int
  | 1 => .int
  | _ => .int
abbrev wsX170 : List Cond := u_ws RX17 TX17 3
theorem nmX17 : ∀ a, a < 3 → ∀ b, b < 3 → a ≠ b → (TX17 a).2.1 ≠ (TX17 b).2.1 := by decide +kernel
theorem tyX17_ok : ∀ k, k < 3 → parseFieldDescriptor (TX17 k).2.2.1 = some (tyX17 k) := by decide +kernel
abbrev cX17_init : ByteArray := prog_4_method_1_code
def yX17_init : MethodName := ⟨RX17, "<init>", "(III)V"⟩
def dkwX17_init_0 : List UInt8 := [42, 183, 0, 1, 42, 27, 181, 0, 7, 42, 28, 181, 0, 13, 42, 29, 181, 0, 16, 177]
abbrev dktX17_init_0 : List UInt8 := dkwX17_init_0 ++ []
theorem dksX17_init_0 : cX17_init.data.toList.drop 0 = dktX17_init_0 := by decide +kernel
theorem dX17_init_0 : decode cX17_init 0 = .ok (.aload_n 0, 1) := dk_42 (dk_at dksX17_init_0 0 rfl rfl)
theorem dX17_init_1 : decode cX17_init 1 = .ok (.invokespecial 1, 3) := dk_183 0 1 (dk_at dksX17_init_0 1 rfl rfl)
theorem dX17_init_4 : decode cX17_init 4 = .ok (.aload_n 0, 1) := dk_42 (dk_at dksX17_init_0 4 rfl rfl)
theorem dX17_init_5 : decode cX17_init 5 = .ok (.iload_n 1, 1) := dk_27 (dk_at dksX17_init_0 5 rfl rfl)
theorem dX17_init_6 : decode cX17_init 6 = .ok (.putfield 7, 3) := dk_181 0 7 (dk_at dksX17_init_0 6 rfl rfl)
theorem dX17_init_9 : decode cX17_init 9 = .ok (.aload_n 0, 1) := dk_42 (dk_at dksX17_init_0 9 rfl rfl)
theorem dX17_init_10 : decode cX17_init 10 = .ok (.iload_n 2, 1) := dk_28 (dk_at dksX17_init_0 10 rfl rfl)
theorem dX17_init_11 : decode cX17_init 11 = .ok (.putfield 13, 3) := dk_181 0 13 (dk_at dksX17_init_0 11 rfl rfl)
theorem dX17_init_14 : decode cX17_init 14 = .ok (.aload_n 0, 1) := dk_42 (dk_at dksX17_init_0 14 rfl rfl)
theorem dX17_init_15 : decode cX17_init 15 = .ok (.iload_n 3, 1) := dk_29 (dk_at dksX17_init_0 15 rfl rfl)
theorem dX17_init_16 : decode cX17_init 16 = .ok (.putfield 16, 3) := dk_181 0 16 (dk_at dksX17_init_0 16 rfl rfl)
theorem dX17_init_19 : decode cX17_init 19 = .ok (.return_, 1) := dk_177 (dk_at dksX17_init_0 19 rfl rfl)
theorem q129 : (Jvm.Cond.initialized "AntennaTuner$Entry") ∈ lw_all := lw_g (lw_at lw_m1 36 rfl) rfl
theorem q982 : (Jvm.Cond.selects "AntennaTuner$Entry" ({ cls := "java/lang/Object", name := "getClass", desc := "()Ljava/lang/Class;" } : Jvm.MethodName) ({ cls := "java/lang/Object", name := "getClass", desc := "()Ljava/lang/Class;" } : Jvm.MethodName)) ∈ lw_all := lw_g (lw_at lw_m4 169 rfl) rfl
theorem q1508 : (Jvm.Cond.instantiable "AntennaTuner$Entry" (3 : Nat)) ∈ lw_all := lw_g (lw_at lw_m6 215 rfl) rfl
theorem q1510 : (Jvm.Cond.instanceMethod ({ cls := "AntennaTuner$Entry", name := "<init>", desc := "(III)V" } : Jvm.MethodName)) ∈ lw_all := lw_g (lw_at lw_m6 217 rfl) rfl
theorem q1511 : (Jvm.Cond.code ({ cls := "AntennaTuner$Entry", name := "<init>", desc := "(III)V" } : Jvm.MethodName) prog_4_method_1_code (4 : Nat) (Option.none : Option Jvm.ClassFile.FieldType)) ∈ lw_all := lw_g (lw_at lw_m6 218 rfl) rfl
theorem q1512 : (Jvm.Cond.methodLink "AntennaTuner$Entry" (1 : Nat) ({ cls := "java/lang/Object", name := "<init>", desc := "()V" } : Jvm.MethodName)) ∈ lw_all := lw_g (lw_at lw_m6 219 rfl) rfl
theorem q1513 : (Jvm.Cond.fieldLink "AntennaTuner$Entry" (7 : Nat) "AntennaTuner$Entry" "frequency" "I") ∈ lw_all := lw_g (lw_at lw_m6 220 rfl) rfl
theorem q1515 : (Jvm.Cond.fieldLink "AntennaTuner$Entry" (13 : Nat) "AntennaTuner$Entry" "settings" "I") ∈ lw_all := lw_g (lw_at lw_m6 222 rfl) rfl
theorem q1517 : (Jvm.Cond.fieldLink "AntennaTuner$Entry" (16 : Nat) "AntennaTuner$Entry" "swr" "I") ∈ lw_all := lw_g (lw_at lw_m6 224 rfl) rfl
theorem q1519 : (Jvm.Cond.laysFinal "AntennaTuner$Entry" "AntennaTuner$Entry" "frequency" "I") ∈ lw_all := lw_g (lw_at lw_m6 226 rfl) rfl
theorem q1520 : (Jvm.Cond.soleField "AntennaTuner$Entry" "frequency") ∈ lw_all := lw_g (lw_at lw_m6 227 rfl) rfl
theorem q1521 : (Jvm.Cond.laysFinal "AntennaTuner$Entry" "AntennaTuner$Entry" "settings" "I") ∈ lw_all := lw_g (lw_at lw_m6 228 rfl) rfl
theorem q1522 : (Jvm.Cond.soleField "AntennaTuner$Entry" "settings") ∈ lw_all := lw_g (lw_at lw_m6 229 rfl) rfl
theorem q1523 : (Jvm.Cond.laysFinal "AntennaTuner$Entry" "AntennaTuner$Entry" "swr" "I") ∈ lw_all := lw_g (lw_at lw_m6 230 rfl) rfl
theorem q1524 : (Jvm.Cond.soleField "AntennaTuner$Entry" "swr") ∈ lw_all := lw_g (lw_at lw_m6 231 rfl) rfl
theorem q1525 : (Jvm.Cond.superclass "AntennaTuner$Entry" "java/lang/Object") ∈ lw_all := lw_g (lw_at lw_m6 232 rfl) rfl
theorem q2231 : (Jvm.Cond.castable "AntennaTuner$Entry" "java/lang/Object") ∈ lw_tbl := lw_at lw_m9 218 rfl
theorem in_X17 : ∀ w ∈ wsX170, w ∈ lw_all := lw_in wsX170 [1519, 1521, 1523] (by decide +kernel) (by decide +kernel)
