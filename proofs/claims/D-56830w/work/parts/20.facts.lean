-- facts that the methods use (written by gen/run.py)
theorem lk_J14_205 : LkF "java/lang/Integer" 205 97 := Or.inl ⟨"java/lang/Integer", q763, Or.inl rfl⟩
theorem lk_J17_1 : LkF "java/util/ArrayList$Itr" 1 146 := Or.inl ⟨"java/util/ArrayList$Itr", q1161, Or.inl rfl⟩
theorem lk_J17_13 : LkF "java/util/ArrayList$Itr" 13 95 := Or.inl ⟨"java/util/ArrayList$Itr", q1159, Or.inl rfl⟩
theorem lk_J17_17 : LkF "java/util/ArrayList$Itr" 17 92 := Or.inl ⟨"java/util/ArrayList", q138, Or.inr q139⟩
theorem lk_J17_22 : LkF "java/util/ArrayList$Itr" 22 96 := Or.inl ⟨"java/util/ArrayList$Itr", q1160, Or.inl rfl⟩
theorem lk_J17_25 : LkF "java/util/ArrayList$Itr" 25 94 := Or.inl ⟨"java/util/ArrayList$Itr", q1158, Or.inl rfl⟩
theorem lk_J17_28 : LkF "java/util/ArrayList$Itr" 28 93 := Or.inr ⟨"java/util/ArrayList", q135⟩
theorem lk_J17_37 : LkF "java/util/ArrayList$Itr" 37 145 := Or.inl ⟨"java/util/ArrayList", q134, Or.inl rfl⟩
theorem lk_J1_7 : LkF "java/util/AbstractList" 7 92 := Or.inl ⟨"java/util/AbstractList", q137, Or.inl rfl⟩
theorem lk_J23_105 : LkF "java/util/HashMap" 105 149 := Or.inl ⟨"java/util/HashMap", q388, Or.inl rfl⟩
theorem lk_J23_156 : LkF "java/util/HashMap" 156 98 := Or.inl ⟨"java/util/HashMap", q389, Or.inl rfl⟩
theorem lk_J23_162 : LkF "java/util/HashMap" 162 152 := Or.inl ⟨"java/util/HashMap$Node", q531, Or.inl rfl⟩
theorem lk_J23_168 : LkF "java/util/HashMap" 168 101 := Or.inl ⟨"java/util/HashMap$Node", q525, Or.inl rfl⟩
theorem lk_J23_170 : LkF "java/util/HashMap" 170 151 := Or.inl ⟨"java/util/HashMap$Node", q529, Or.inl rfl⟩
theorem lk_J23_202 : LkF "java/util/HashMap" 202 99 := Or.inl ⟨"java/util/HashMap", q390, Or.inl rfl⟩
theorem lk_J23_88 : LkF "java/util/HashMap" 88 100 := Or.inl ⟨"java/util/HashMap", q391, Or.inl rfl⟩
theorem lk_J24_17 : LkF "java/util/HashMap$Node" 17 152 := Or.inl ⟨"java/util/HashMap$Node", q530, Or.inl rfl⟩
theorem lk_J24_20 : LkF "java/util/HashMap$Node" 20 153 := Or.inl ⟨"java/util/HashMap$Node", q532, Or.inl rfl⟩
theorem lk_J2_48 : LkF "java/util/ArrayList" 48 93 := Or.inl ⟨"java/util/ArrayList", q136, Or.inl rfl⟩
theorem lk_J2_63 : LkF "java/util/ArrayList" 63 92 := Or.inl ⟨"java/util/ArrayList", q140, Or.inr q139⟩
theorem lk_J2_9 : LkF "java/util/ArrayList" 9 145 := Or.inl ⟨"java/util/ArrayList", q133, Or.inl rfl⟩
theorem lk_J4_17 : LkF "java/lang/Throwable" 17 124 := Or.inl ⟨"java/lang/Throwable", q825, Or.inl rfl⟩
theorem lk_J4_24 : LkF "java/lang/Throwable" 24 125 := Or.inl ⟨"java/lang/Throwable", q826, Or.inl rfl⟩
theorem lk_J4_31 : LkF "java/lang/Throwable" 31 126 := Or.inl ⟨"java/lang/Throwable", q823, Or.inl rfl⟩
theorem lk_J4_7 : LkF "java/lang/Throwable" 7 123 := Or.inl ⟨"java/lang/Throwable", q824, Or.inl rfl⟩
theorem lk_X10_19 : LkF "QuorumAlmanac$Message" 19 25 := Or.inl ⟨"QuorumAlmanac$Message", q1053, Or.inl rfl⟩
theorem lk_X10_22 : LkF "QuorumAlmanac$Message" 22 8 := Or.inl ⟨"QuorumAlmanac$Node", q231, Or.inl rfl⟩
theorem lk_X11_13 : LkF "QuorumAlmanac$RoundMessage" 13 25 := Or.inl ⟨"QuorumAlmanac$RoundMessage", q1054, Or.inr q1055⟩
theorem lk_X11_16 : LkF "QuorumAlmanac$RoundMessage" 16 8 := Or.inl ⟨"QuorumAlmanac$Node", q230, Or.inl rfl⟩
theorem lk_X12_13 : LkF "QuorumAlmanac$Install" 13 23 := Or.inl ⟨"QuorumAlmanac$Install", q1028, Or.inr q1029⟩
theorem lk_X12_17 : LkF "QuorumAlmanac$Install" 17 24 := Or.inl ⟨"QuorumAlmanac$Install", q1046, Or.inr q1047⟩
theorem lk_X12_20 : LkF "QuorumAlmanac$Install" 20 25 := Or.inl ⟨"QuorumAlmanac$Install", q1060, Or.inr q1061⟩
theorem lk_X12_23 : LkF "QuorumAlmanac$Install" 23 26 := Or.inl ⟨"QuorumAlmanac$Install", q1015, Or.inr q1016⟩
theorem lk_X12_7 : LkF "QuorumAlmanac$Install" 7 121 := Or.inl ⟨"QuorumAlmanac$Install", q1008, Or.inl rfl⟩
theorem lk_X13_13 : LkF "QuorumAlmanac$Append" 13 28 := Or.inl ⟨"QuorumAlmanac$Append", q1103, Or.inl rfl⟩
theorem lk_X13_16 : LkF "QuorumAlmanac$Append" 16 122 := Or.inl ⟨"QuorumAlmanac$Append", q1105, Or.inl rfl⟩
theorem lk_X13_20 : LkF "QuorumAlmanac$Append" 20 29 := Or.inl ⟨"QuorumAlmanac$Append", q1107, Or.inl rfl⟩
theorem lk_X13_23 : LkF "QuorumAlmanac$Append" 23 23 := Or.inl ⟨"QuorumAlmanac$Append", q1026, Or.inr q1027⟩
theorem lk_X13_26 : LkF "QuorumAlmanac$Append" 26 24 := Or.inl ⟨"QuorumAlmanac$Append", q1044, Or.inr q1045⟩
theorem lk_X13_29 : LkF "QuorumAlmanac$Append" 29 25 := Or.inl ⟨"QuorumAlmanac$Append", q1058, Or.inr q1059⟩
theorem lk_X13_32 : LkF "QuorumAlmanac$Append" 32 26 := Or.inl ⟨"QuorumAlmanac$Append", q1013, Or.inr q1014⟩
theorem lk_X13_7 : LkF "QuorumAlmanac$Append" 7 27 := Or.inl ⟨"QuorumAlmanac$Append", q1101, Or.inl rfl⟩
theorem lk_X14_13 : LkF "QuorumAlmanac$Wish" 13 31 := Or.inl ⟨"QuorumAlmanac$Wish", q1234, Or.inl rfl⟩
theorem lk_X14_16 : LkF "QuorumAlmanac$Wish" 16 23 := Or.inl ⟨"QuorumAlmanac$Wish", q1032, Or.inr q1033⟩
theorem lk_X14_19 : LkF "QuorumAlmanac$Wish" 19 24 := Or.inl ⟨"QuorumAlmanac$Wish", q1050, Or.inr q1051⟩
theorem lk_X14_22 : LkF "QuorumAlmanac$Wish" 22 25 := Or.inl ⟨"QuorumAlmanac$Wish", q1064, Or.inr q1065⟩
theorem lk_X14_7 : LkF "QuorumAlmanac$Wish" 7 30 := Or.inl ⟨"QuorumAlmanac$Wish", q1232, Or.inl rfl⟩
theorem lk_X15_13 : LkF "QuorumAlmanac$Entry" 13 33 := Or.inl ⟨"QuorumAlmanac$Entry", q1261, Or.inl rfl⟩
theorem lk_X15_17 : LkF "QuorumAlmanac$Entry" 17 34 := Or.inl ⟨"QuorumAlmanac$Entry", q1265, Or.inl rfl⟩
theorem lk_X15_20 : LkF "QuorumAlmanac$Entry" 20 35 := Or.inl ⟨"QuorumAlmanac$Entry", q1268, Or.inl rfl⟩
theorem lk_X15_7 : LkF "QuorumAlmanac$Entry" 7 32 := Or.inl ⟨"QuorumAlmanac$Entry", q1258, Or.inl rfl⟩
theorem lk_X16_13 : LkF "QuorumAlmanacModel$Message" 13 73 := Or.inl ⟨"QuorumAlmanacModel$Message", q2175, Or.inl rfl⟩
theorem lk_X16_17 : LkF "QuorumAlmanacModel$Message" 17 74 := Or.inl ⟨"QuorumAlmanacModel$Message", q2178, Or.inl rfl⟩
theorem lk_X16_20 : LkF "QuorumAlmanacModel$Message" 20 75 := Or.inl ⟨"QuorumAlmanacModel$Message", q2181, Or.inl rfl⟩
theorem lk_X16_26 : LkF "QuorumAlmanacModel$Message" 26 76 := Or.inl ⟨"QuorumAlmanacModel$Message", q2183, Or.inl rfl⟩
theorem lk_X16_29 : LkF "QuorumAlmanacModel$Message" 29 77 := Or.inl ⟨"QuorumAlmanacModel$Message", q2185, Or.inl rfl⟩
theorem lk_X16_32 : LkF "QuorumAlmanacModel$Message" 32 78 := Or.inl ⟨"QuorumAlmanacModel$Message", q2187, Or.inl rfl⟩
theorem lk_X16_35 : LkF "QuorumAlmanacModel$Message" 35 79 := Or.inl ⟨"QuorumAlmanacModel$Message", q2189, Or.inl rfl⟩
theorem lk_X16_38 : LkF "QuorumAlmanacModel$Message" 38 80 := Or.inl ⟨"QuorumAlmanacModel$Message", q2191, Or.inl rfl⟩
theorem lk_X16_42 : LkF "QuorumAlmanacModel$Message" 42 81 := Or.inl ⟨"QuorumAlmanacModel$Message", q2193, Or.inl rfl⟩
theorem lk_X16_45 : LkF "QuorumAlmanacModel$Message" 45 143 := Or.inl ⟨"QuorumAlmanacModel$Message", q2195, Or.inl rfl⟩
theorem lk_X16_49 : LkF "QuorumAlmanacModel$Message" 49 144 := Or.inl ⟨"QuorumAlmanacModel$Message", q2197, Or.inl rfl⟩
theorem lk_X18_13 : LkF "QuorumAlmanac$Answer" 13 37 := Or.inl ⟨"QuorumAlmanac$Answer", q1332, Or.inl rfl⟩
theorem lk_X18_17 : LkF "QuorumAlmanac$Answer" 17 23 := Or.inl ⟨"QuorumAlmanac$Answer", q1024, Or.inr q1025⟩
theorem lk_X18_20 : LkF "QuorumAlmanac$Answer" 20 24 := Or.inl ⟨"QuorumAlmanac$Answer", q1042, Or.inr q1043⟩
theorem lk_X18_23 : LkF "QuorumAlmanac$Answer" 23 25 := Or.inl ⟨"QuorumAlmanac$Answer", q1056, Or.inr q1057⟩
theorem lk_X18_26 : LkF "QuorumAlmanac$Answer" 26 26 := Or.inl ⟨"QuorumAlmanac$Answer", q1011, Or.inr q1012⟩
theorem lk_X18_36 : LkF "QuorumAlmanac$Answer" 36 6 := Or.inl ⟨"QuorumAlmanac$Node", q226, Or.inl rfl⟩
theorem lk_X18_41 : LkF "QuorumAlmanac$Answer" 41 8 := Or.inl ⟨"QuorumAlmanac$Node", q233, Or.inl rfl⟩
theorem lk_X18_7 : LkF "QuorumAlmanac$Answer" 7 36 := Or.inl ⟨"QuorumAlmanac$Answer", q1330, Or.inl rfl⟩
theorem lk_X1_113 : LkF "QuorumAlmanac" 113 5 := Or.inl ⟨"QuorumAlmanac$Node", q223, Or.inl rfl⟩
theorem lk_X1_122 : LkF "QuorumAlmanac" 122 7 := Or.inl ⟨"QuorumAlmanac$Node", q229, Or.inl rfl⟩
theorem lk_X1_137 : LkF "QuorumAlmanac" 137 13 := Or.inl ⟨"QuorumAlmanac$Node", q247, Or.inl rfl⟩
theorem lk_X1_140 : LkF "QuorumAlmanac" 140 108 := Or.inl ⟨"QuorumAlmanac$Node", q241, Or.inl rfl⟩
theorem lk_X1_144 : LkF "QuorumAlmanac" 144 20 := Or.inl ⟨"QuorumAlmanac$Snapshot", q205, Or.inl rfl⟩
theorem lk_X1_152 : LkF "QuorumAlmanac" 152 6 := Or.inl ⟨"QuorumAlmanac$Node", q227, Or.inl rfl⟩
theorem lk_X1_161 : LkF "QuorumAlmanac" 161 9 := Or.inl ⟨"QuorumAlmanac$Node", q237, Or.inl rfl⟩
theorem lk_X1_167 : LkF "QuorumAlmanac" 167 12 := Or.inl ⟨"QuorumAlmanac$Node", q244, Or.inl rfl⟩
theorem lk_X1_189 : LkF "QuorumAlmanac" 189 32 := Or.inl ⟨"QuorumAlmanac$Entry", q1260, Or.inl rfl⟩
theorem lk_X1_192 : LkF "QuorumAlmanac" 192 33 := Or.inl ⟨"QuorumAlmanac$Entry", q1264, Or.inl rfl⟩
theorem lk_X1_211 : LkF "QuorumAlmanac" 211 22 := Or.inl ⟨"QuorumAlmanac$Message", q1022, Or.inl rfl⟩
theorem lk_X1_224 : LkF "QuorumAlmanac" 224 23 := Or.inl ⟨"QuorumAlmanac$Message", q1040, Or.inl rfl⟩
theorem lk_X1_227 : LkF "QuorumAlmanac" 227 24 := Or.inl ⟨"QuorumAlmanac$Message", q1052, Or.inl rfl⟩
theorem lk_X1_23 : LkF "QuorumAlmanac" 23 102 := Or.inl ⟨"QuorumAlmanac", q306, Or.inl rfl⟩
theorem lk_X1_232 : LkF "QuorumAlmanac" 232 154 := Or.inl ⟨"QuorumAlmanac", q315, Or.inl rfl⟩
theorem lk_X1_250 : LkF "QuorumAlmanac" 250 109 := Or.inl ⟨"QuorumAlmanac$Node", q243, Or.inl rfl⟩
theorem lk_X1_253 : LkF "QuorumAlmanac" 253 8 := Or.inl ⟨"QuorumAlmanac$Node", q235, Or.inl rfl⟩
theorem lk_X1_282 : LkF "QuorumAlmanac" 282 19 := Or.inl ⟨"QuorumAlmanac$Members", q164, Or.inl rfl⟩
theorem lk_X1_292 : LkF "QuorumAlmanac" 292 110 := Or.inl ⟨"QuorumAlmanac$Node", q249, Or.inl rfl⟩
theorem lk_X1_296 : LkF "QuorumAlmanac" 296 116 := Or.inl ⟨"QuorumAlmanac$Store", q184, Or.inl rfl⟩
theorem lk_X1_30 : LkF "QuorumAlmanac" 30 103 := Or.inl ⟨"QuorumAlmanac", q307, Or.inl rfl⟩
theorem lk_X1_304 : LkF "QuorumAlmanac" 304 46 := Or.inl ⟨"QuorumAlmanac$Read", q1832, Or.inl rfl⟩
theorem lk_X1_307 : LkF "QuorumAlmanac" 307 114 := Or.inl ⟨"QuorumAlmanac$Node", q259, Or.inl rfl⟩
theorem lk_X1_317 : LkF "QuorumAlmanac" 317 47 := Or.inl ⟨"QuorumAlmanac$Read", q1834, Or.inl rfl⟩
theorem lk_X1_328 : LkF "QuorumAlmanac" 328 118 := Or.inl ⟨"QuorumAlmanac$Store", q187, Or.inl rfl⟩
theorem lk_X1_339 : LkF "QuorumAlmanac" 339 1 := Or.inl ⟨"QuorumAlmanac", q317, Or.inl rfl⟩
theorem lk_X1_35 : LkF "QuorumAlmanac" 35 104 := Or.inl ⟨"QuorumAlmanac", q308, Or.inl rfl⟩
theorem lk_X1_42 : LkF "QuorumAlmanac" 42 105 := Or.inl ⟨"QuorumAlmanac", q310, Or.inl rfl⟩
theorem lk_X1_46 : LkF "QuorumAlmanac" 46 106 := Or.inl ⟨"QuorumAlmanac", q311, Or.inl rfl⟩
theorem lk_X1_49 : LkF "QuorumAlmanac" 49 107 := Or.inl ⟨"QuorumAlmanac", q313, Or.inl rfl⟩
theorem lk_X1_52 : LkF "QuorumAlmanac" 52 2 := Or.inl ⟨"QuorumAlmanac", q318, Or.inl rfl⟩
theorem lk_X1_56 : LkF "QuorumAlmanac" 56 3 := Or.inl ⟨"QuorumAlmanac", q319, Or.inl rfl⟩
theorem lk_X1_94 : LkF "QuorumAlmanac" 94 0 := Or.inl ⟨"QuorumAlmanac", q314, Or.inl rfl⟩
theorem lk_X20_13 : LkF "QuorumAlmanac$Voice" 13 23 := Or.inl ⟨"QuorumAlmanac$Voice", q1030, Or.inr q1031⟩
theorem lk_X20_17 : LkF "QuorumAlmanac$Voice" 17 24 := Or.inl ⟨"QuorumAlmanac$Voice", q1048, Or.inr q1049⟩
theorem lk_X20_20 : LkF "QuorumAlmanac$Voice" 20 25 := Or.inl ⟨"QuorumAlmanac$Voice", q1062, Or.inr q1063⟩
theorem lk_X20_30 : LkF "QuorumAlmanac$Voice" 30 6 := Or.inl ⟨"QuorumAlmanac$Node", q225, Or.inl rfl⟩
theorem lk_X20_36 : LkF "QuorumAlmanac$Voice" 36 8 := Or.inl ⟨"QuorumAlmanac$Node", q232, Or.inl rfl⟩
theorem lk_X20_37 : LkF "QuorumAlmanac$Voice" 37 17 := Or.inl ⟨"QuorumAlmanac$Node", q253, Or.inl rfl⟩
theorem lk_X20_7 : LkF "QuorumAlmanac$Voice" 7 40 := Or.inl ⟨"QuorumAlmanac$Voice", q1684, Or.inl rfl⟩
theorem lk_X21_7 : LkF "QuorumAlmanac$Read" 7 46 := Or.inl ⟨"QuorumAlmanac$Read", q1830, Or.inl rfl⟩
theorem lk_X22_7 : LkF "QuorumAlmanacModel$Read" 7 90 := Or.inl ⟨"QuorumAlmanacModel$Read", q2557, Or.inl rfl⟩
theorem lk_X23_13 : LkF "QuorumAlmanac$Place" 13 49 := Or.inl ⟨"QuorumAlmanac$Place", q436, Or.inl rfl⟩
theorem lk_X23_7 : LkF "QuorumAlmanac$Place" 7 48 := Or.inl ⟨"QuorumAlmanac$Place", q435, Or.inl rfl⟩
theorem lk_X2_101 : LkF "QuorumAlmanac$Node" 101 35 := Or.inl ⟨"QuorumAlmanac$Entry", q1270, Or.inl rfl⟩
theorem lk_X2_104 : LkF "QuorumAlmanac$Node" 104 34 := Or.inl ⟨"QuorumAlmanac$Entry", q1267, Or.inl rfl⟩
theorem lk_X2_110 : LkF "QuorumAlmanac$Node" 110 119 := Or.inl ⟨"QuorumAlmanac$Snapshot", q209, Or.inl rfl⟩
theorem lk_X2_114 : LkF "QuorumAlmanac$Node" 114 13 := Or.inl ⟨"QuorumAlmanac$Node", q246, Or.inl rfl⟩
theorem lk_X2_143 : LkF "QuorumAlmanac$Node" 143 8 := Or.inl ⟨"QuorumAlmanac$Node", q234, Or.inl rfl⟩
theorem lk_X2_144 : LkF "QuorumAlmanac$Node" 144 19 := Or.inl ⟨"QuorumAlmanac$Members", q163, Or.inl rfl⟩
theorem lk_X2_15 : LkF "QuorumAlmanac$Node" 15 5 := Or.inl ⟨"QuorumAlmanac$Node", q222, Or.inl rfl⟩
theorem lk_X2_154 : LkF "QuorumAlmanac$Node" 154 106 := Or.inr ⟨"QuorumAlmanac", q312⟩
theorem lk_X2_171 : LkF "QuorumAlmanac$Node" 171 41 := Or.inl ⟨"QuorumAlmanac$Read", q1822, Or.inl rfl⟩
theorem lk_X2_174 : LkF "QuorumAlmanac$Node" 174 46 := Or.inl ⟨"QuorumAlmanac$Read", q1831, Or.inl rfl⟩
theorem lk_X2_180 : LkF "QuorumAlmanac$Node" 180 14 := Or.inl ⟨"QuorumAlmanac$Node", q250, Or.inl rfl⟩
theorem lk_X2_183 : LkF "QuorumAlmanac$Node" 183 16 := Or.inl ⟨"QuorumAlmanac$Node", q252, Or.inl rfl⟩
theorem lk_X2_186 : LkF "QuorumAlmanac$Node" 186 7 := Or.inl ⟨"QuorumAlmanac$Node", q228, Or.inl rfl⟩
theorem lk_X2_19 : LkF "QuorumAlmanac$Node" 19 6 := Or.inl ⟨"QuorumAlmanac$Node", q224, Or.inl rfl⟩
theorem lk_X2_196 : LkF "QuorumAlmanac$Node" 196 17 := Or.inl ⟨"QuorumAlmanac$Node", q254, Or.inl rfl⟩
theorem lk_X2_199 : LkF "QuorumAlmanac$Node" 199 10 := Or.inl ⟨"QuorumAlmanac$Node", q238, Or.inl rfl⟩
theorem lk_X2_23 : LkF "QuorumAlmanac$Node" 23 9 := Or.inl ⟨"QuorumAlmanac$Node", q236, Or.inl rfl⟩
theorem lk_X2_233 : LkF "QuorumAlmanac$Node" 233 31 := Or.inl ⟨"QuorumAlmanac$Wish", q1235, Or.inl rfl⟩
theorem lk_X2_236 : LkF "QuorumAlmanac$Node" 236 30 := Or.inl ⟨"QuorumAlmanac$Wish", q1233, Or.inl rfl⟩
theorem lk_X2_239 : LkF "QuorumAlmanac$Node" 239 25 := Or.inl ⟨"QuorumAlmanac$Wish", q1066, Or.inr q1065⟩
theorem lk_X2_240 : LkF "QuorumAlmanac$Node" 240 23 := Or.inl ⟨"QuorumAlmanac$Wish", q1034, Or.inr q1033⟩
theorem lk_X2_27 : LkF "QuorumAlmanac$Node" 27 11 := Or.inl ⟨"QuorumAlmanac$Node", q239, Or.inl rfl⟩
theorem lk_X2_276 : LkF "QuorumAlmanac$Node" 276 23 := Or.inl ⟨"QuorumAlmanac$RoundMessage", q1035, Or.inr q1036⟩
theorem lk_X2_279 : LkF "QuorumAlmanac$Node" 279 26 := Or.inl ⟨"QuorumAlmanac$RoundMessage", q1017, Or.inl rfl⟩
theorem lk_X2_282 : LkF "QuorumAlmanac$Node" 282 1 := Or.inr ⟨"QuorumAlmanac", q316⟩
theorem lk_X2_290 : LkF "QuorumAlmanac$Node" 290 27 := Or.inl ⟨"QuorumAlmanac$Append", q1102, Or.inl rfl⟩
theorem lk_X2_3 : LkF "QuorumAlmanac$Node" 3 115 := Or.inl ⟨"QuorumAlmanac$Node", q260, Or.inl rfl⟩
theorem lk_X2_301 : LkF "QuorumAlmanac$Node" 301 28 := Or.inl ⟨"QuorumAlmanac$Append", q1104, Or.inl rfl⟩
theorem lk_X2_315 : LkF "QuorumAlmanac$Node" 315 12 := Or.inl ⟨"QuorumAlmanac$Node", q245, Or.inl rfl⟩
theorem lk_X2_324 : LkF "QuorumAlmanac$Node" 324 23 := Or.inl ⟨"QuorumAlmanac$Append", q1037, Or.inr q1027⟩
theorem lk_X2_325 : LkF "QuorumAlmanac$Node" 325 26 := Or.inl ⟨"QuorumAlmanac$Append", q1018, Or.inr q1014⟩
theorem lk_X2_33 : LkF "QuorumAlmanac$Node" 33 109 := Or.inl ⟨"QuorumAlmanac$Node", q242, Or.inl rfl⟩
theorem lk_X2_330 : LkF "QuorumAlmanac$Node" 330 39 := Or.inl ⟨"QuorumAlmanac$Refused", q1613, Or.inl rfl⟩
theorem lk_X2_333 : LkF "QuorumAlmanac$Node" 333 122 := Or.inl ⟨"QuorumAlmanac$Append", q1106, Or.inl rfl⟩
theorem lk_X2_342 : LkF "QuorumAlmanac$Node" 342 29 := Or.inl ⟨"QuorumAlmanac$Append", q1108, Or.inl rfl⟩
theorem lk_X2_349 : LkF "QuorumAlmanac$Node" 349 121 := Or.inl ⟨"QuorumAlmanac$Install", q1009, Or.inl rfl⟩
theorem lk_X2_350 : LkF "QuorumAlmanac$Node" 350 120 := Or.inl ⟨"QuorumAlmanac$Snapshot", q211, Or.inl rfl⟩
theorem lk_X2_355 : LkF "QuorumAlmanac$Node" 355 23 := Or.inl ⟨"QuorumAlmanac$Install", q1038, Or.inr q1029⟩
theorem lk_X2_356 : LkF "QuorumAlmanac$Node" 356 26 := Or.inl ⟨"QuorumAlmanac$Install", q1019, Or.inr q1016⟩
theorem lk_X2_357 : LkF "QuorumAlmanac$Node" 357 23 := Or.inl ⟨"QuorumAlmanac$Answer", q1039, Or.inr q1025⟩
theorem lk_X2_358 : LkF "QuorumAlmanac$Node" 358 36 := Or.inl ⟨"QuorumAlmanac$Answer", q1331, Or.inl rfl⟩
theorem lk_X2_361 : LkF "QuorumAlmanac$Node" 361 37 := Or.inl ⟨"QuorumAlmanac$Answer", q1333, Or.inl rfl⟩
theorem lk_X2_362 : LkF "QuorumAlmanac$Node" 362 26 := Or.inl ⟨"QuorumAlmanac$Answer", q1020, Or.inr q1012⟩
theorem lk_X2_378 : LkF "QuorumAlmanac$Node" 378 43 := Or.inl ⟨"QuorumAlmanac$Read", q1825, Or.inl rfl⟩
theorem lk_X2_379 : LkF "QuorumAlmanac$Node" 379 116 := Or.inl ⟨"QuorumAlmanac$Store", q183, Or.inl rfl⟩
theorem lk_X2_382 : LkF "QuorumAlmanac$Node" 382 44 := Or.inl ⟨"QuorumAlmanac$Read", q1827, Or.inl rfl⟩
theorem lk_X2_385 : LkF "QuorumAlmanac$Node" 385 47 := Or.inl ⟨"QuorumAlmanac$Read", q1833, Or.inl rfl⟩
theorem lk_X2_388 : LkF "QuorumAlmanac$Node" 388 3 := Or.inr ⟨"QuorumAlmanac", q320⟩
theorem lk_X2_391 : LkF "QuorumAlmanac$Node" 391 45 := Or.inl ⟨"QuorumAlmanac$Read", q1829, Or.inl rfl⟩
theorem lk_X2_394 : LkF "QuorumAlmanac$Node" 394 104 := Or.inr ⟨"QuorumAlmanac", q309⟩
theorem lk_X2_40 : LkF "QuorumAlmanac$Node" 40 110 := Or.inl ⟨"QuorumAlmanac$Node", q248, Or.inl rfl⟩
theorem lk_X2_44 : LkF "QuorumAlmanac$Node" 44 15 := Or.inl ⟨"QuorumAlmanac$Node", q251, Or.inl rfl⟩
theorem lk_X2_47 : LkF "QuorumAlmanac$Node" 47 111 := Or.inl ⟨"QuorumAlmanac$Node", q255, Or.inl rfl⟩
theorem lk_X2_51 : LkF "QuorumAlmanac$Node" 51 112 := Or.inl ⟨"QuorumAlmanac$Node", q256, Or.inl rfl⟩
theorem lk_X2_54 : LkF "QuorumAlmanac$Node" 54 113 := Or.inl ⟨"QuorumAlmanac$Node", q257, Or.inl rfl⟩
theorem lk_X2_57 : LkF "QuorumAlmanac$Node" 57 114 := Or.inl ⟨"QuorumAlmanac$Node", q258, Or.inl rfl⟩
theorem lk_X2_60 : LkF "QuorumAlmanac$Node" 60 4 := Or.inl ⟨"QuorumAlmanac$Node", q221, Or.inl rfl⟩
theorem lk_X2_68 : LkF "QuorumAlmanac$Node" 68 108 := Or.inl ⟨"QuorumAlmanac$Node", q240, Or.inl rfl⟩
theorem lk_X2_72 : LkF "QuorumAlmanac$Node" 72 20 := Or.inl ⟨"QuorumAlmanac$Snapshot", q204, Or.inl rfl⟩
theorem lk_X2_88 : LkF "QuorumAlmanac$Node" 88 21 := Or.inl ⟨"QuorumAlmanac$Snapshot", q207, Or.inl rfl⟩
theorem lk_X2_95 : LkF "QuorumAlmanac$Node" 95 32 := Or.inl ⟨"QuorumAlmanac$Entry", q1259, Or.inl rfl⟩
theorem lk_X2_96 : LkF "QuorumAlmanac$Node" 96 33 := Or.inl ⟨"QuorumAlmanac$Entry", q1263, Or.inl rfl⟩
theorem lk_X3_13 : LkF "QuorumAlmanac$Members" 13 19 := Or.inl ⟨"QuorumAlmanac$Members", q162, Or.inl rfl⟩
theorem lk_X3_7 : LkF "QuorumAlmanac$Members" 7 18 := Or.inl ⟨"QuorumAlmanac$Members", q161, Or.inl rfl⟩
theorem lk_X4_15 : LkF "QuorumAlmanac$Store" 15 117 := Or.inl ⟨"QuorumAlmanac$Store", q185, Or.inl rfl⟩
theorem lk_X4_19 : LkF "QuorumAlmanac$Store" 19 118 := Or.inl ⟨"QuorumAlmanac$Store", q186, Or.inl rfl⟩
theorem lk_X4_23 : LkF "QuorumAlmanac$Store" 23 34 := Or.inl ⟨"QuorumAlmanac$Entry", q1266, Or.inl rfl⟩
theorem lk_X4_29 : LkF "QuorumAlmanac$Store" 29 33 := Or.inl ⟨"QuorumAlmanac$Entry", q1262, Or.inl rfl⟩
theorem lk_X4_33 : LkF "QuorumAlmanac$Store" 33 35 := Or.inl ⟨"QuorumAlmanac$Entry", q1269, Or.inl rfl⟩
theorem lk_X4_9 : LkF "QuorumAlmanac$Store" 9 116 := Or.inl ⟨"QuorumAlmanac$Store", q182, Or.inl rfl⟩
theorem lk_X6_102 : LkF "QuorumAlmanacModel" 102 62 := Or.inr ⟨"QuorumAlmanacModel", q2013⟩
theorem lk_X6_105 : LkF "QuorumAlmanacModel" 105 63 := Or.inr ⟨"QuorumAlmanacModel", q2015⟩
theorem lk_X6_108 : LkF "QuorumAlmanacModel" 108 61 := Or.inr ⟨"QuorumAlmanacModel", q2008⟩
theorem lk_X6_111 : LkF "QuorumAlmanacModel" 111 132 := Or.inr ⟨"QuorumAlmanacModel", q2003⟩
theorem lk_X6_115 : LkF "QuorumAlmanacModel" 115 68 := Or.inr ⟨"QuorumAlmanacModel", q1971⟩
theorem lk_X6_123 : LkF "QuorumAlmanacModel" 123 58 := Or.inr ⟨"QuorumAlmanacModel", q1999⟩
theorem lk_X6_127 : LkF "QuorumAlmanacModel" 127 56 := Or.inr ⟨"QuorumAlmanacModel", q1995⟩
theorem lk_X6_130 : LkF "QuorumAlmanacModel" 130 57 := Or.inr ⟨"QuorumAlmanacModel", q1997⟩
theorem lk_X6_136 : LkF "QuorumAlmanacModel" 136 60 := Or.inr ⟨"QuorumAlmanacModel", q2007⟩
theorem lk_X6_15 : LkF "QuorumAlmanacModel" 15 128 := Or.inl ⟨"QuorumAlmanacModel", q2072, Or.inl rfl⟩
theorem lk_X6_153 : LkF "QuorumAlmanacModel" 153 82 := Or.inr ⟨"QuorumAlmanacModel", q2260⟩
theorem lk_X6_156 : LkF "QuorumAlmanacModel" 156 83 := Or.inr ⟨"QuorumAlmanacModel", q2264⟩
theorem lk_X6_166 : LkF "QuorumAlmanacModel" 166 72 := Or.inr ⟨"QuorumAlmanacModel", q2174⟩
theorem lk_X6_186 : LkF "QuorumAlmanacModel" 186 73 := Or.inr ⟨"QuorumAlmanacModel", q2177⟩
theorem lk_X6_187 : LkF "QuorumAlmanacModel" 187 74 := Or.inr ⟨"QuorumAlmanacModel", q2180⟩
theorem lk_X6_190 : LkF "QuorumAlmanacModel" 190 75 := Or.inr ⟨"QuorumAlmanacModel", q2182⟩
theorem lk_X6_195 : LkF "QuorumAlmanacModel" 195 155 := Or.inl ⟨"QuorumAlmanacModel", q2079, Or.inl rfl⟩
theorem lk_X6_205 : LkF "QuorumAlmanacModel" 205 133 := Or.inr ⟨"QuorumAlmanacModel", q2005⟩
theorem lk_X6_22 : LkF "QuorumAlmanacModel" 22 129 := Or.inl ⟨"QuorumAlmanacModel", q2073, Or.inl rfl⟩
theorem lk_X6_235 : LkF "QuorumAlmanacModel" 235 134 := Or.inr ⟨"QuorumAlmanacModel", q2011⟩
theorem lk_X6_239 : LkF "QuorumAlmanacModel" 239 141 := Or.inr ⟨"QuorumAlmanacModel", q1957⟩
theorem lk_X6_247 : LkF "QuorumAlmanacModel" 247 90 := Or.inr ⟨"QuorumAlmanacModel", q2559⟩
theorem lk_X6_250 : LkF "QuorumAlmanacModel" 250 138 := Or.inr ⟨"QuorumAlmanacModel", q2024⟩
theorem lk_X6_259 : LkF "QuorumAlmanacModel" 259 91 := Or.inr ⟨"QuorumAlmanacModel", q2561⟩
theorem lk_X6_26 : LkF "QuorumAlmanacModel" 26 130 := Or.inl ⟨"QuorumAlmanacModel", q2076, Or.inl rfl⟩
theorem lk_X6_268 : LkF "QuorumAlmanacModel" 268 142 := Or.inr ⟨"QuorumAlmanacModel", q1959⟩
theorem lk_X6_271 : LkF "QuorumAlmanacModel" 271 84 := Or.inr ⟨"QuorumAlmanacModel", q2268⟩
theorem lk_X6_274 : LkF "QuorumAlmanacModel" 274 85 := Or.inr ⟨"QuorumAlmanacModel", q2272⟩
theorem lk_X6_277 : LkF "QuorumAlmanacModel" 277 53 := Or.inl ⟨"QuorumAlmanacModel", q2081, Or.inl rfl⟩
theorem lk_X6_29 : LkF "QuorumAlmanacModel" 29 131 := Or.inl ⟨"QuorumAlmanacModel", q2078, Or.inl rfl⟩
theorem lk_X6_32 : LkF "QuorumAlmanacModel" 32 50 := Or.inl ⟨"QuorumAlmanacModel", q2071, Or.inl rfl⟩
theorem lk_X6_57 : LkF "QuorumAlmanacModel" 57 51 := Or.inl ⟨"QuorumAlmanacModel", q2074, Or.inl rfl⟩
theorem lk_X6_67 : LkF "QuorumAlmanacModel" 67 52 := Or.inl ⟨"QuorumAlmanacModel", q2075, Or.inl rfl⟩
theorem lk_X6_77 : LkF "QuorumAlmanacModel" 77 59 := Or.inr ⟨"QuorumAlmanacModel", q2001⟩
theorem lk_X6_81 : LkF "QuorumAlmanacModel" 81 55 := Or.inr ⟨"QuorumAlmanacModel", q1992⟩
theorem lk_X7_103 : LkF "QuorumAlmanacModel$Node" 103 70 := Or.inr ⟨"QuorumAlmanacModel", q1975⟩
theorem lk_X7_106 : LkF "QuorumAlmanacModel$Node" 106 84 := Or.inr ⟨"QuorumAlmanacModel", q2267⟩
theorem lk_X7_109 : LkF "QuorumAlmanacModel$Node" 109 71 := Or.inr ⟨"QuorumAlmanacModel", q1977⟩
theorem lk_X7_112 : LkF "QuorumAlmanacModel$Node" 112 85 := Or.inr ⟨"QuorumAlmanacModel", q2271⟩
theorem lk_X7_126 : LkF "QuorumAlmanacModel$Node" 126 56 := Or.inl ⟨"QuorumAlmanacModel$Node", q1994, Or.inl rfl⟩
theorem lk_X7_127 : LkF "QuorumAlmanacModel$Node" 127 65 := Or.inl ⟨"QuorumAlmanacModel$Node", q2017, Or.inl rfl⟩
theorem lk_X7_130 : LkF "QuorumAlmanacModel$Node" 130 66 := Or.inl ⟨"QuorumAlmanacModel$Node", q2018, Or.inl rfl⟩
theorem lk_X7_136 : LkF "QuorumAlmanacModel$Node" 136 130 := Or.inr ⟨"QuorumAlmanacModel", q2077⟩
theorem lk_X7_15 : LkF "QuorumAlmanacModel$Node" 15 57 := Or.inl ⟨"QuorumAlmanacModel$Node", q1996, Or.inl rfl⟩
theorem lk_X7_154 : LkF "QuorumAlmanacModel$Node" 154 86 := Or.inr ⟨"QuorumAlmanacModel", q2551⟩
theorem lk_X7_157 : LkF "QuorumAlmanacModel$Node" 157 90 := Or.inr ⟨"QuorumAlmanacModel", q2558⟩
theorem lk_X7_160 : LkF "QuorumAlmanacModel$Node" 160 55 := Or.inl ⟨"QuorumAlmanacModel$Node", q1993, Or.inl rfl⟩
theorem lk_X7_174 : LkF "QuorumAlmanacModel$Node" 174 62 := Or.inl ⟨"QuorumAlmanacModel$Node", q2012, Or.inl rfl⟩
theorem lk_X7_177 : LkF "QuorumAlmanacModel$Node" 177 67 := Or.inl ⟨"QuorumAlmanacModel$Node", q2019, Or.inl rfl⟩
theorem lk_X7_184 : LkF "QuorumAlmanacModel$Node" 184 76 := Or.inr ⟨"QuorumAlmanacModel", q2184⟩
theorem lk_X7_187 : LkF "QuorumAlmanacModel$Node" 187 78 := Or.inr ⟨"QuorumAlmanacModel", q2188⟩
theorem lk_X7_19 : LkF "QuorumAlmanacModel$Node" 19 58 := Or.inl ⟨"QuorumAlmanacModel$Node", q1998, Or.inl rfl⟩
theorem lk_X7_191 : LkF "QuorumAlmanacModel$Node" 191 79 := Or.inr ⟨"QuorumAlmanacModel", q2190⟩
theorem lk_X7_216 : LkF "QuorumAlmanacModel$Node" 216 77 := Or.inr ⟨"QuorumAlmanacModel", q2186⟩
theorem lk_X7_219 : LkF "QuorumAlmanacModel$Node" 219 144 := Or.inr ⟨"QuorumAlmanacModel", q2198⟩
theorem lk_X7_220 : LkF "QuorumAlmanacModel$Node" 220 61 := Or.inl ⟨"QuorumAlmanacModel$Node", q2009, Or.inl rfl⟩
theorem lk_X7_223 : LkF "QuorumAlmanacModel$Node" 223 81 := Or.inr ⟨"QuorumAlmanacModel", q2194⟩
theorem lk_X7_226 : LkF "QuorumAlmanacModel$Node" 226 143 := Or.inr ⟨"QuorumAlmanacModel", q2196⟩
theorem lk_X7_23 : LkF "QuorumAlmanacModel$Node" 23 59 := Or.inl ⟨"QuorumAlmanacModel$Node", q2000, Or.inl rfl⟩
theorem lk_X7_243 : LkF "QuorumAlmanacModel$Node" 243 60 := Or.inl ⟨"QuorumAlmanacModel$Node", q2006, Or.inl rfl⟩
theorem lk_X7_255 : LkF "QuorumAlmanacModel$Node" 255 89 := Or.inr ⟨"QuorumAlmanacModel", q2556⟩
theorem lk_X7_256 : LkF "QuorumAlmanacModel$Node" 256 141 := Or.inr ⟨"QuorumAlmanacModel", q1956⟩
theorem lk_X7_259 : LkF "QuorumAlmanacModel$Node" 259 88 := Or.inr ⟨"QuorumAlmanacModel", q2554⟩
theorem lk_X7_262 : LkF "QuorumAlmanacModel$Node" 262 91 := Or.inr ⟨"QuorumAlmanacModel", q2560⟩
theorem lk_X7_265 : LkF "QuorumAlmanacModel$Node" 265 73 := Or.inr ⟨"QuorumAlmanacModel", q2176⟩
theorem lk_X7_273 : LkF "QuorumAlmanacModel$Node" 273 80 := Or.inr ⟨"QuorumAlmanacModel", q2192⟩
theorem lk_X7_276 : LkF "QuorumAlmanacModel$Node" 276 74 := Or.inr ⟨"QuorumAlmanacModel", q2179⟩
theorem lk_X7_282 : LkF "QuorumAlmanacModel$Node" 282 53 := Or.inr ⟨"QuorumAlmanacModel", q2080⟩
theorem lk_X7_3 : LkF "QuorumAlmanacModel$Node" 3 139 := Or.inl ⟨"QuorumAlmanacModel$Node", q2025, Or.inl rfl⟩
theorem lk_X7_30 : LkF "QuorumAlmanacModel$Node" 30 133 := Or.inl ⟨"QuorumAlmanacModel$Node", q2004, Or.inl rfl⟩
theorem lk_X7_310 : LkF "QuorumAlmanacModel$Node" 310 140 := Or.inr ⟨"QuorumAlmanacModel", q1979⟩
theorem lk_X7_34 : LkF "QuorumAlmanacModel$Node" 34 63 := Or.inl ⟨"QuorumAlmanacModel$Node", q2014, Or.inl rfl⟩
theorem lk_X7_37 : LkF "QuorumAlmanacModel$Node" 37 64 := Or.inl ⟨"QuorumAlmanacModel$Node", q2016, Or.inl rfl⟩
theorem lk_X7_40 : LkF "QuorumAlmanacModel$Node" 40 135 := Or.inl ⟨"QuorumAlmanacModel$Node", q2020, Or.inl rfl⟩
theorem lk_X7_44 : LkF "QuorumAlmanacModel$Node" 44 136 := Or.inl ⟨"QuorumAlmanacModel$Node", q2021, Or.inl rfl⟩
theorem lk_X7_47 : LkF "QuorumAlmanacModel$Node" 47 137 := Or.inl ⟨"QuorumAlmanacModel$Node", q2022, Or.inl rfl⟩
theorem lk_X7_50 : LkF "QuorumAlmanacModel$Node" 50 138 := Or.inl ⟨"QuorumAlmanacModel$Node", q2023, Or.inl rfl⟩
theorem lk_X7_53 : LkF "QuorumAlmanacModel$Node" 53 54 := Or.inl ⟨"QuorumAlmanacModel$Node", q1991, Or.inl rfl⟩
theorem lk_X7_64 : LkF "QuorumAlmanacModel$Node" 64 132 := Or.inl ⟨"QuorumAlmanacModel$Node", q2002, Or.inl rfl⟩
theorem lk_X7_68 : LkF "QuorumAlmanacModel$Node" 68 134 := Or.inl ⟨"QuorumAlmanacModel$Node", q2010, Or.inl rfl⟩
theorem lk_X7_72 : LkF "QuorumAlmanacModel$Node" 72 68 := Or.inr ⟨"QuorumAlmanacModel", q1970⟩
theorem lk_X7_88 : LkF "QuorumAlmanacModel$Node" 88 69 := Or.inr ⟨"QuorumAlmanacModel", q1973⟩
theorem lk_X7_95 : LkF "QuorumAlmanacModel$Node" 95 82 := Or.inr ⟨"QuorumAlmanacModel", q2259⟩
theorem lk_X7_96 : LkF "QuorumAlmanacModel$Node" 96 83 := Or.inr ⟨"QuorumAlmanacModel", q2263⟩
theorem lk_X9_15 : LkF "QuorumAlmanacModel$Store" 15 142 := Or.inl ⟨"QuorumAlmanacModel$Store", q1958, Or.inl rfl⟩
theorem lk_X9_19 : LkF "QuorumAlmanacModel$Store" 19 83 := Or.inr ⟨"QuorumAlmanacModel", q2262⟩
theorem lk_X9_25 : LkF "QuorumAlmanacModel$Store" 25 84 := Or.inr ⟨"QuorumAlmanacModel", q2266⟩
theorem lk_X9_29 : LkF "QuorumAlmanacModel$Store" 29 85 := Or.inr ⟨"QuorumAlmanacModel", q2270⟩
theorem lk_X9_9 : LkF "QuorumAlmanacModel$Store" 9 141 := Or.inl ⟨"QuorumAlmanacModel$Store", q1955, Or.inl rfl⟩
theorem lkf_J17_1 : ∃ ref, Cond.fieldLink "java/util/ArrayList$Itr" 1 ref (fN 146).2.1 (fN 146).2.2.1 ∈ lw_all ∧ (ref = (fN 146).1 ∨ Cond.sameField ref (fN 146).1 (fN 146).2.1 (fN 146).2.2.1 ∈ lw_all) := ⟨"java/util/ArrayList$Itr", q1161, Or.inl rfl⟩
theorem lkf_J23_81 : ∃ ref, Cond.fieldLink "java/util/HashMap" 81 ref (fN 156).2.1 (fN 156).2.2.1 ∈ lw_all ∧ (ref = (fN 156).1 ∨ Cond.sameField ref (fN 156).1 (fN 156).2.1 (fN 156).2.2.1 ∈ lw_all) := ⟨"java/util/HashMap", q392, Or.inl rfl⟩
theorem lkf_J24_13 : ∃ ref, Cond.fieldLink "java/util/HashMap$Node" 13 ref (fN 151).2.1 (fN 151).2.2.1 ∈ lw_all ∧ (ref = (fN 151).1 ∨ Cond.sameField ref (fN 151).1 (fN 151).2.1 (fN 151).2.2.1 ∈ lw_all) := ⟨"java/util/HashMap$Node", q526, Or.inl rfl⟩
theorem lkf_J24_7 : ∃ ref, Cond.fieldLink "java/util/HashMap$Node" 7 ref (fN 101).2.1 (fN 101).2.2.1 ∈ lw_all ∧ (ref = (fN 101).1 ∨ Cond.sameField ref (fN 101).1 (fN 101).2.1 (fN 101).2.2.1 ∈ lw_all) := ⟨"java/util/HashMap$Node", q522, Or.inl rfl⟩
theorem lkf_X10_13 : ∃ ref, Cond.fieldLink "QuorumAlmanac$Message" 13 ref (fN 23).2.1 (fN 23).2.2.1 ∈ lw_all ∧ (ref = (fN 23).1 ∨ Cond.sameField ref (fN 23).1 (fN 23).2.1 (fN 23).2.2.1 ∈ lw_all) := ⟨"QuorumAlmanac$Message", q1023, Or.inl rfl⟩
theorem lkf_X10_16 : ∃ ref, Cond.fieldLink "QuorumAlmanac$Message" 16 ref (fN 24).2.1 (fN 24).2.2.1 ∈ lw_all ∧ (ref = (fN 24).1 ∨ Cond.sameField ref (fN 24).1 (fN 24).2.1 (fN 24).2.2.1 ∈ lw_all) := ⟨"QuorumAlmanac$Message", q1041, Or.inl rfl⟩
theorem lkf_X10_19 : ∃ ref, Cond.fieldLink "QuorumAlmanac$Message" 19 ref (fN 25).2.1 (fN 25).2.2.1 ∈ lw_all ∧ (ref = (fN 25).1 ∨ Cond.sameField ref (fN 25).1 (fN 25).2.1 (fN 25).2.2.1 ∈ lw_all) := ⟨"QuorumAlmanac$Message", q1053, Or.inl rfl⟩
theorem lkf_X10_7 : ∃ ref, Cond.fieldLink "QuorumAlmanac$Message" 7 ref (fN 22).2.1 (fN 22).2.2.1 ∈ lw_all ∧ (ref = (fN 22).1 ∨ Cond.sameField ref (fN 22).1 (fN 22).2.1 (fN 22).2.2.1 ∈ lw_all) := ⟨"QuorumAlmanac$Message", q1021, Or.inl rfl⟩
theorem lkf_X11_7 : ∃ ref, Cond.fieldLink "QuorumAlmanac$RoundMessage" 7 ref (fN 26).2.1 (fN 26).2.2.1 ∈ lw_all ∧ (ref = (fN 26).1 ∨ Cond.sameField ref (fN 26).1 (fN 26).2.1 (fN 26).2.2.1 ∈ lw_all) := ⟨"QuorumAlmanac$RoundMessage", q1010, Or.inl rfl⟩
theorem lkf_X12_7 : ∃ ref, Cond.fieldLink "QuorumAlmanac$Install" 7 ref (fN 121).2.1 (fN 121).2.2.1 ∈ lw_all ∧ (ref = (fN 121).1 ∨ Cond.sameField ref (fN 121).1 (fN 121).2.1 (fN 121).2.2.1 ∈ lw_all) := ⟨"QuorumAlmanac$Install", q1008, Or.inl rfl⟩
theorem lkf_X13_13 : ∃ ref, Cond.fieldLink "QuorumAlmanac$Append" 13 ref (fN 28).2.1 (fN 28).2.2.1 ∈ lw_all ∧ (ref = (fN 28).1 ∨ Cond.sameField ref (fN 28).1 (fN 28).2.1 (fN 28).2.2.1 ∈ lw_all) := ⟨"QuorumAlmanac$Append", q1103, Or.inl rfl⟩
theorem lkf_X13_16 : ∃ ref, Cond.fieldLink "QuorumAlmanac$Append" 16 ref (fN 122).2.1 (fN 122).2.2.1 ∈ lw_all ∧ (ref = (fN 122).1 ∨ Cond.sameField ref (fN 122).1 (fN 122).2.1 (fN 122).2.2.1 ∈ lw_all) := ⟨"QuorumAlmanac$Append", q1105, Or.inl rfl⟩
theorem lkf_X13_20 : ∃ ref, Cond.fieldLink "QuorumAlmanac$Append" 20 ref (fN 29).2.1 (fN 29).2.2.1 ∈ lw_all ∧ (ref = (fN 29).1 ∨ Cond.sameField ref (fN 29).1 (fN 29).2.1 (fN 29).2.2.1 ∈ lw_all) := ⟨"QuorumAlmanac$Append", q1107, Or.inl rfl⟩
theorem lkf_X13_7 : ∃ ref, Cond.fieldLink "QuorumAlmanac$Append" 7 ref (fN 27).2.1 (fN 27).2.2.1 ∈ lw_all ∧ (ref = (fN 27).1 ∨ Cond.sameField ref (fN 27).1 (fN 27).2.1 (fN 27).2.2.1 ∈ lw_all) := ⟨"QuorumAlmanac$Append", q1101, Or.inl rfl⟩
theorem lkf_X14_13 : ∃ ref, Cond.fieldLink "QuorumAlmanac$Wish" 13 ref (fN 31).2.1 (fN 31).2.2.1 ∈ lw_all ∧ (ref = (fN 31).1 ∨ Cond.sameField ref (fN 31).1 (fN 31).2.1 (fN 31).2.2.1 ∈ lw_all) := ⟨"QuorumAlmanac$Wish", q1234, Or.inl rfl⟩
theorem lkf_X14_7 : ∃ ref, Cond.fieldLink "QuorumAlmanac$Wish" 7 ref (fN 30).2.1 (fN 30).2.2.1 ∈ lw_all ∧ (ref = (fN 30).1 ∨ Cond.sameField ref (fN 30).1 (fN 30).2.1 (fN 30).2.2.1 ∈ lw_all) := ⟨"QuorumAlmanac$Wish", q1232, Or.inl rfl⟩
theorem lkf_X15_13 : ∃ ref, Cond.fieldLink "QuorumAlmanac$Entry" 13 ref (fN 33).2.1 (fN 33).2.2.1 ∈ lw_all ∧ (ref = (fN 33).1 ∨ Cond.sameField ref (fN 33).1 (fN 33).2.1 (fN 33).2.2.1 ∈ lw_all) := ⟨"QuorumAlmanac$Entry", q1261, Or.inl rfl⟩
theorem lkf_X15_17 : ∃ ref, Cond.fieldLink "QuorumAlmanac$Entry" 17 ref (fN 34).2.1 (fN 34).2.2.1 ∈ lw_all ∧ (ref = (fN 34).1 ∨ Cond.sameField ref (fN 34).1 (fN 34).2.1 (fN 34).2.2.1 ∈ lw_all) := ⟨"QuorumAlmanac$Entry", q1265, Or.inl rfl⟩
theorem lkf_X15_20 : ∃ ref, Cond.fieldLink "QuorumAlmanac$Entry" 20 ref (fN 35).2.1 (fN 35).2.2.1 ∈ lw_all ∧ (ref = (fN 35).1 ∨ Cond.sameField ref (fN 35).1 (fN 35).2.1 (fN 35).2.2.1 ∈ lw_all) := ⟨"QuorumAlmanac$Entry", q1268, Or.inl rfl⟩
theorem lkf_X15_7 : ∃ ref, Cond.fieldLink "QuorumAlmanac$Entry" 7 ref (fN 32).2.1 (fN 32).2.2.1 ∈ lw_all ∧ (ref = (fN 32).1 ∨ Cond.sameField ref (fN 32).1 (fN 32).2.1 (fN 32).2.2.1 ∈ lw_all) := ⟨"QuorumAlmanac$Entry", q1258, Or.inl rfl⟩
theorem lkf_X16_13 : ∃ ref, Cond.fieldLink "QuorumAlmanacModel$Message" 13 ref (fN 73).2.1 (fN 73).2.2.1 ∈ lw_all ∧ (ref = (fN 73).1 ∨ Cond.sameField ref (fN 73).1 (fN 73).2.1 (fN 73).2.2.1 ∈ lw_all) := ⟨"QuorumAlmanacModel$Message", q2175, Or.inl rfl⟩
theorem lkf_X16_17 : ∃ ref, Cond.fieldLink "QuorumAlmanacModel$Message" 17 ref (fN 74).2.1 (fN 74).2.2.1 ∈ lw_all ∧ (ref = (fN 74).1 ∨ Cond.sameField ref (fN 74).1 (fN 74).2.1 (fN 74).2.2.1 ∈ lw_all) := ⟨"QuorumAlmanacModel$Message", q2178, Or.inl rfl⟩
theorem lkf_X16_20 : ∃ ref, Cond.fieldLink "QuorumAlmanacModel$Message" 20 ref (fN 75).2.1 (fN 75).2.2.1 ∈ lw_all ∧ (ref = (fN 75).1 ∨ Cond.sameField ref (fN 75).1 (fN 75).2.1 (fN 75).2.2.1 ∈ lw_all) := ⟨"QuorumAlmanacModel$Message", q2181, Or.inl rfl⟩
theorem lkf_X16_7 : ∃ ref, Cond.fieldLink "QuorumAlmanacModel$Message" 7 ref (fN 72).2.1 (fN 72).2.2.1 ∈ lw_all ∧ (ref = (fN 72).1 ∨ Cond.sameField ref (fN 72).1 (fN 72).2.1 (fN 72).2.2.1 ∈ lw_all) := ⟨"QuorumAlmanacModel$Message", q2173, Or.inl rfl⟩
theorem lkf_X17_13 : ∃ ref, Cond.fieldLink "QuorumAlmanacModel$Entry" 13 ref (fN 83).2.1 (fN 83).2.2.1 ∈ lw_all ∧ (ref = (fN 83).1 ∨ Cond.sameField ref (fN 83).1 (fN 83).2.1 (fN 83).2.2.1 ∈ lw_all) := ⟨"QuorumAlmanacModel$Entry", q2261, Or.inl rfl⟩
theorem lkf_X17_17 : ∃ ref, Cond.fieldLink "QuorumAlmanacModel$Entry" 17 ref (fN 84).2.1 (fN 84).2.2.1 ∈ lw_all ∧ (ref = (fN 84).1 ∨ Cond.sameField ref (fN 84).1 (fN 84).2.1 (fN 84).2.2.1 ∈ lw_all) := ⟨"QuorumAlmanacModel$Entry", q2265, Or.inl rfl⟩
theorem lkf_X17_20 : ∃ ref, Cond.fieldLink "QuorumAlmanacModel$Entry" 20 ref (fN 85).2.1 (fN 85).2.2.1 ∈ lw_all ∧ (ref = (fN 85).1 ∨ Cond.sameField ref (fN 85).1 (fN 85).2.1 (fN 85).2.2.1 ∈ lw_all) := ⟨"QuorumAlmanacModel$Entry", q2269, Or.inl rfl⟩
theorem lkf_X17_7 : ∃ ref, Cond.fieldLink "QuorumAlmanacModel$Entry" 7 ref (fN 82).2.1 (fN 82).2.2.1 ∈ lw_all ∧ (ref = (fN 82).1 ∨ Cond.sameField ref (fN 82).1 (fN 82).2.1 (fN 82).2.2.1 ∈ lw_all) := ⟨"QuorumAlmanacModel$Entry", q2258, Or.inl rfl⟩
theorem lkf_X18_13 : ∃ ref, Cond.fieldLink "QuorumAlmanac$Answer" 13 ref (fN 37).2.1 (fN 37).2.2.1 ∈ lw_all ∧ (ref = (fN 37).1 ∨ Cond.sameField ref (fN 37).1 (fN 37).2.1 (fN 37).2.2.1 ∈ lw_all) := ⟨"QuorumAlmanac$Answer", q1332, Or.inl rfl⟩
theorem lkf_X18_7 : ∃ ref, Cond.fieldLink "QuorumAlmanac$Answer" 7 ref (fN 36).2.1 (fN 36).2.2.1 ∈ lw_all ∧ (ref = (fN 36).1 ∨ Cond.sameField ref (fN 36).1 (fN 36).2.1 (fN 36).2.2.1 ∈ lw_all) := ⟨"QuorumAlmanac$Answer", q1330, Or.inl rfl⟩
theorem lkf_X19_7 : ∃ ref, Cond.fieldLink "QuorumAlmanac$Refused" 7 ref (fN 39).2.1 (fN 39).2.2.1 ∈ lw_all ∧ (ref = (fN 39).1 ∨ Cond.sameField ref (fN 39).1 (fN 39).2.1 (fN 39).2.2.1 ∈ lw_all) := ⟨"QuorumAlmanac$Refused", q1612, Or.inl rfl⟩
theorem lkf_X1_23 : ∃ ref, Cond.fieldLink "QuorumAlmanac" 23 ref (fN 102).2.1 (fN 102).2.2.1 ∈ lw_all ∧ (ref = (fN 102).1 ∨ Cond.sameField ref (fN 102).1 (fN 102).2.1 (fN 102).2.2.1 ∈ lw_all) := ⟨"QuorumAlmanac", q306, Or.inl rfl⟩
theorem lkf_X1_30 : ∃ ref, Cond.fieldLink "QuorumAlmanac" 30 ref (fN 103).2.1 (fN 103).2.2.1 ∈ lw_all ∧ (ref = (fN 103).1 ∨ Cond.sameField ref (fN 103).1 (fN 103).2.1 (fN 103).2.2.1 ∈ lw_all) := ⟨"QuorumAlmanac", q307, Or.inl rfl⟩
theorem lkf_X1_35 : ∃ ref, Cond.fieldLink "QuorumAlmanac" 35 ref (fN 104).2.1 (fN 104).2.2.1 ∈ lw_all ∧ (ref = (fN 104).1 ∨ Cond.sameField ref (fN 104).1 (fN 104).2.1 (fN 104).2.2.1 ∈ lw_all) := ⟨"QuorumAlmanac", q308, Or.inl rfl⟩
theorem lkf_X1_42 : ∃ ref, Cond.fieldLink "QuorumAlmanac" 42 ref (fN 105).2.1 (fN 105).2.2.1 ∈ lw_all ∧ (ref = (fN 105).1 ∨ Cond.sameField ref (fN 105).1 (fN 105).2.1 (fN 105).2.2.1 ∈ lw_all) := ⟨"QuorumAlmanac", q310, Or.inl rfl⟩
theorem lkf_X1_46 : ∃ ref, Cond.fieldLink "QuorumAlmanac" 46 ref (fN 106).2.1 (fN 106).2.2.1 ∈ lw_all ∧ (ref = (fN 106).1 ∨ Cond.sameField ref (fN 106).1 (fN 106).2.1 (fN 106).2.2.1 ∈ lw_all) := ⟨"QuorumAlmanac", q311, Or.inl rfl⟩
theorem lkf_X1_49 : ∃ ref, Cond.fieldLink "QuorumAlmanac" 49 ref (fN 107).2.1 (fN 107).2.2.1 ∈ lw_all ∧ (ref = (fN 107).1 ∨ Cond.sameField ref (fN 107).1 (fN 107).2.1 (fN 107).2.2.1 ∈ lw_all) := ⟨"QuorumAlmanac", q313, Or.inl rfl⟩
theorem lkf_X20_7 : ∃ ref, Cond.fieldLink "QuorumAlmanac$Voice" 7 ref (fN 40).2.1 (fN 40).2.2.1 ∈ lw_all ∧ (ref = (fN 40).1 ∨ Cond.sameField ref (fN 40).1 (fN 40).2.1 (fN 40).2.2.1 ∈ lw_all) := ⟨"QuorumAlmanac$Voice", q1684, Or.inl rfl⟩
theorem lkf_X21_13 : ∃ ref, Cond.fieldLink "QuorumAlmanac$Read" 13 ref (fN 41).2.1 (fN 41).2.2.1 ∈ lw_all ∧ (ref = (fN 41).1 ∨ Cond.sameField ref (fN 41).1 (fN 41).2.1 (fN 41).2.2.1 ∈ lw_all) := ⟨"QuorumAlmanac$Read", q1821, Or.inl rfl⟩
theorem lkf_X21_17 : ∃ ref, Cond.fieldLink "QuorumAlmanac$Read" 17 ref (fN 42).2.1 (fN 42).2.2.1 ∈ lw_all ∧ (ref = (fN 42).1 ∨ Cond.sameField ref (fN 42).1 (fN 42).2.1 (fN 42).2.2.1 ∈ lw_all) := ⟨"QuorumAlmanac$Read", q1823, Or.inl rfl⟩
theorem lkf_X21_20 : ∃ ref, Cond.fieldLink "QuorumAlmanac$Read" 20 ref (fN 43).2.1 (fN 43).2.2.1 ∈ lw_all ∧ (ref = (fN 43).1 ∨ Cond.sameField ref (fN 43).1 (fN 43).2.1 (fN 43).2.2.1 ∈ lw_all) := ⟨"QuorumAlmanac$Read", q1824, Or.inl rfl⟩
theorem lkf_X21_23 : ∃ ref, Cond.fieldLink "QuorumAlmanac$Read" 23 ref (fN 44).2.1 (fN 44).2.2.1 ∈ lw_all ∧ (ref = (fN 44).1 ∨ Cond.sameField ref (fN 44).1 (fN 44).2.1 (fN 44).2.2.1 ∈ lw_all) := ⟨"QuorumAlmanac$Read", q1826, Or.inl rfl⟩
theorem lkf_X21_26 : ∃ ref, Cond.fieldLink "QuorumAlmanac$Read" 26 ref (fN 45).2.1 (fN 45).2.2.1 ∈ lw_all ∧ (ref = (fN 45).1 ∨ Cond.sameField ref (fN 45).1 (fN 45).2.1 (fN 45).2.2.1 ∈ lw_all) := ⟨"QuorumAlmanac$Read", q1828, Or.inl rfl⟩
theorem lkf_X22_13 : ∃ ref, Cond.fieldLink "QuorumAlmanacModel$Read" 13 ref (fN 86).2.1 (fN 86).2.2.1 ∈ lw_all ∧ (ref = (fN 86).1 ∨ Cond.sameField ref (fN 86).1 (fN 86).2.1 (fN 86).2.2.1 ∈ lw_all) := ⟨"QuorumAlmanacModel$Read", q2550, Or.inl rfl⟩
theorem lkf_X22_17 : ∃ ref, Cond.fieldLink "QuorumAlmanacModel$Read" 17 ref (fN 87).2.1 (fN 87).2.2.1 ∈ lw_all ∧ (ref = (fN 87).1 ∨ Cond.sameField ref (fN 87).1 (fN 87).2.1 (fN 87).2.2.1 ∈ lw_all) := ⟨"QuorumAlmanacModel$Read", q2552, Or.inl rfl⟩
theorem lkf_X22_20 : ∃ ref, Cond.fieldLink "QuorumAlmanacModel$Read" 20 ref (fN 88).2.1 (fN 88).2.2.1 ∈ lw_all ∧ (ref = (fN 88).1 ∨ Cond.sameField ref (fN 88).1 (fN 88).2.1 (fN 88).2.2.1 ∈ lw_all) := ⟨"QuorumAlmanacModel$Read", q2553, Or.inl rfl⟩
theorem lkf_X22_23 : ∃ ref, Cond.fieldLink "QuorumAlmanacModel$Read" 23 ref (fN 89).2.1 (fN 89).2.2.1 ∈ lw_all ∧ (ref = (fN 89).1 ∨ Cond.sameField ref (fN 89).1 (fN 89).2.1 (fN 89).2.2.1 ∈ lw_all) := ⟨"QuorumAlmanacModel$Read", q2555, Or.inl rfl⟩
theorem lkf_X23_13 : ∃ ref, Cond.fieldLink "QuorumAlmanac$Place" 13 ref (fN 49).2.1 (fN 49).2.2.1 ∈ lw_all ∧ (ref = (fN 49).1 ∨ Cond.sameField ref (fN 49).1 (fN 49).2.1 (fN 49).2.2.1 ∈ lw_all) := ⟨"QuorumAlmanac$Place", q436, Or.inl rfl⟩
theorem lkf_X23_7 : ∃ ref, Cond.fieldLink "QuorumAlmanac$Place" 7 ref (fN 48).2.1 (fN 48).2.2.1 ∈ lw_all ∧ (ref = (fN 48).1 ∨ Cond.sameField ref (fN 48).1 (fN 48).2.1 (fN 48).2.2.1 ∈ lw_all) := ⟨"QuorumAlmanac$Place", q435, Or.inl rfl⟩
theorem lkf_X2_3 : ∃ ref, Cond.fieldLink "QuorumAlmanac$Node" 3 ref (fN 115).2.1 (fN 115).2.2.1 ∈ lw_all ∧ (ref = (fN 115).1 ∨ Cond.sameField ref (fN 115).1 (fN 115).2.1 (fN 115).2.2.1 ∈ lw_all) := ⟨"QuorumAlmanac$Node", q260, Or.inl rfl⟩
theorem lkf_X2_47 : ∃ ref, Cond.fieldLink "QuorumAlmanac$Node" 47 ref (fN 111).2.1 (fN 111).2.2.1 ∈ lw_all ∧ (ref = (fN 111).1 ∨ Cond.sameField ref (fN 111).1 (fN 111).2.1 (fN 111).2.2.1 ∈ lw_all) := ⟨"QuorumAlmanac$Node", q255, Or.inl rfl⟩
theorem lkf_X2_51 : ∃ ref, Cond.fieldLink "QuorumAlmanac$Node" 51 ref (fN 112).2.1 (fN 112).2.2.1 ∈ lw_all ∧ (ref = (fN 112).1 ∨ Cond.sameField ref (fN 112).1 (fN 112).2.1 (fN 112).2.2.1 ∈ lw_all) := ⟨"QuorumAlmanac$Node", q256, Or.inl rfl⟩
theorem lkf_X2_54 : ∃ ref, Cond.fieldLink "QuorumAlmanac$Node" 54 ref (fN 113).2.1 (fN 113).2.2.1 ∈ lw_all ∧ (ref = (fN 113).1 ∨ Cond.sameField ref (fN 113).1 (fN 113).2.1 (fN 113).2.2.1 ∈ lw_all) := ⟨"QuorumAlmanac$Node", q257, Or.inl rfl⟩
theorem lkf_X2_57 : ∃ ref, Cond.fieldLink "QuorumAlmanac$Node" 57 ref (fN 114).2.1 (fN 114).2.2.1 ∈ lw_all ∧ (ref = (fN 114).1 ∨ Cond.sameField ref (fN 114).1 (fN 114).2.1 (fN 114).2.2.1 ∈ lw_all) := ⟨"QuorumAlmanac$Node", q258, Or.inl rfl⟩
theorem lkf_X2_60 : ∃ ref, Cond.fieldLink "QuorumAlmanac$Node" 60 ref (fN 4).2.1 (fN 4).2.2.1 ∈ lw_all ∧ (ref = (fN 4).1 ∨ Cond.sameField ref (fN 4).1 (fN 4).2.1 (fN 4).2.2.1 ∈ lw_all) := ⟨"QuorumAlmanac$Node", q221, Or.inl rfl⟩
theorem lkf_X3_13 : ∃ ref, Cond.fieldLink "QuorumAlmanac$Members" 13 ref (fN 19).2.1 (fN 19).2.2.1 ∈ lw_all ∧ (ref = (fN 19).1 ∨ Cond.sameField ref (fN 19).1 (fN 19).2.1 (fN 19).2.2.1 ∈ lw_all) := ⟨"QuorumAlmanac$Members", q162, Or.inl rfl⟩
theorem lkf_X3_7 : ∃ ref, Cond.fieldLink "QuorumAlmanac$Members" 7 ref (fN 18).2.1 (fN 18).2.2.1 ∈ lw_all ∧ (ref = (fN 18).1 ∨ Cond.sameField ref (fN 18).1 (fN 18).2.1 (fN 18).2.2.1 ∈ lw_all) := ⟨"QuorumAlmanac$Members", q161, Or.inl rfl⟩
theorem lkf_X4_15 : ∃ ref, Cond.fieldLink "QuorumAlmanac$Store" 15 ref (fN 117).2.1 (fN 117).2.2.1 ∈ lw_all ∧ (ref = (fN 117).1 ∨ Cond.sameField ref (fN 117).1 (fN 117).2.1 (fN 117).2.2.1 ∈ lw_all) := ⟨"QuorumAlmanac$Store", q185, Or.inl rfl⟩
theorem lkf_X4_19 : ∃ ref, Cond.fieldLink "QuorumAlmanac$Store" 19 ref (fN 118).2.1 (fN 118).2.2.1 ∈ lw_all ∧ (ref = (fN 118).1 ∨ Cond.sameField ref (fN 118).1 (fN 118).2.1 (fN 118).2.2.1 ∈ lw_all) := ⟨"QuorumAlmanac$Store", q186, Or.inl rfl⟩
theorem lkf_X4_9 : ∃ ref, Cond.fieldLink "QuorumAlmanac$Store" 9 ref (fN 116).2.1 (fN 116).2.2.1 ∈ lw_all ∧ (ref = (fN 116).1 ∨ Cond.sameField ref (fN 116).1 (fN 116).2.1 (fN 116).2.2.1 ∈ lw_all) := ⟨"QuorumAlmanac$Store", q182, Or.inl rfl⟩
theorem lkf_X5_13 : ∃ ref, Cond.fieldLink "QuorumAlmanac$Snapshot" 13 ref (fN 21).2.1 (fN 21).2.2.1 ∈ lw_all ∧ (ref = (fN 21).1 ∨ Cond.sameField ref (fN 21).1 (fN 21).2.1 (fN 21).2.2.1 ∈ lw_all) := ⟨"QuorumAlmanac$Snapshot", q206, Or.inl rfl⟩
theorem lkf_X5_16 : ∃ ref, Cond.fieldLink "QuorumAlmanac$Snapshot" 16 ref (fN 119).2.1 (fN 119).2.2.1 ∈ lw_all ∧ (ref = (fN 119).1 ∨ Cond.sameField ref (fN 119).1 (fN 119).2.1 (fN 119).2.2.1 ∈ lw_all) := ⟨"QuorumAlmanac$Snapshot", q208, Or.inl rfl⟩
theorem lkf_X5_20 : ∃ ref, Cond.fieldLink "QuorumAlmanac$Snapshot" 20 ref (fN 120).2.1 (fN 120).2.2.1 ∈ lw_all ∧ (ref = (fN 120).1 ∨ Cond.sameField ref (fN 120).1 (fN 120).2.1 (fN 120).2.2.1 ∈ lw_all) := ⟨"QuorumAlmanac$Snapshot", q210, Or.inl rfl⟩
theorem lkf_X5_7 : ∃ ref, Cond.fieldLink "QuorumAlmanac$Snapshot" 7 ref (fN 20).2.1 (fN 20).2.2.1 ∈ lw_all ∧ (ref = (fN 20).1 ∨ Cond.sameField ref (fN 20).1 (fN 20).2.1 (fN 20).2.2.1 ∈ lw_all) := ⟨"QuorumAlmanac$Snapshot", q203, Or.inl rfl⟩
theorem lkf_X6_15 : ∃ ref, Cond.fieldLink "QuorumAlmanacModel" 15 ref (fN 128).2.1 (fN 128).2.2.1 ∈ lw_all ∧ (ref = (fN 128).1 ∨ Cond.sameField ref (fN 128).1 (fN 128).2.1 (fN 128).2.2.1 ∈ lw_all) := ⟨"QuorumAlmanacModel", q2072, Or.inl rfl⟩
theorem lkf_X6_22 : ∃ ref, Cond.fieldLink "QuorumAlmanacModel" 22 ref (fN 129).2.1 (fN 129).2.2.1 ∈ lw_all ∧ (ref = (fN 129).1 ∨ Cond.sameField ref (fN 129).1 (fN 129).2.1 (fN 129).2.2.1 ∈ lw_all) := ⟨"QuorumAlmanacModel", q2073, Or.inl rfl⟩
theorem lkf_X6_26 : ∃ ref, Cond.fieldLink "QuorumAlmanacModel" 26 ref (fN 130).2.1 (fN 130).2.2.1 ∈ lw_all ∧ (ref = (fN 130).1 ∨ Cond.sameField ref (fN 130).1 (fN 130).2.1 (fN 130).2.2.1 ∈ lw_all) := ⟨"QuorumAlmanacModel", q2076, Or.inl rfl⟩
theorem lkf_X6_29 : ∃ ref, Cond.fieldLink "QuorumAlmanacModel" 29 ref (fN 131).2.1 (fN 131).2.2.1 ∈ lw_all ∧ (ref = (fN 131).1 ∨ Cond.sameField ref (fN 131).1 (fN 131).2.1 (fN 131).2.2.1 ∈ lw_all) := ⟨"QuorumAlmanacModel", q2078, Or.inl rfl⟩
theorem lkf_X7_3 : ∃ ref, Cond.fieldLink "QuorumAlmanacModel$Node" 3 ref (fN 139).2.1 (fN 139).2.2.1 ∈ lw_all ∧ (ref = (fN 139).1 ∨ Cond.sameField ref (fN 139).1 (fN 139).2.1 (fN 139).2.2.1 ∈ lw_all) := ⟨"QuorumAlmanacModel$Node", q2025, Or.inl rfl⟩
theorem lkf_X7_40 : ∃ ref, Cond.fieldLink "QuorumAlmanacModel$Node" 40 ref (fN 135).2.1 (fN 135).2.2.1 ∈ lw_all ∧ (ref = (fN 135).1 ∨ Cond.sameField ref (fN 135).1 (fN 135).2.1 (fN 135).2.2.1 ∈ lw_all) := ⟨"QuorumAlmanacModel$Node", q2020, Or.inl rfl⟩
theorem lkf_X7_44 : ∃ ref, Cond.fieldLink "QuorumAlmanacModel$Node" 44 ref (fN 136).2.1 (fN 136).2.2.1 ∈ lw_all ∧ (ref = (fN 136).1 ∨ Cond.sameField ref (fN 136).1 (fN 136).2.1 (fN 136).2.2.1 ∈ lw_all) := ⟨"QuorumAlmanacModel$Node", q2021, Or.inl rfl⟩
theorem lkf_X7_47 : ∃ ref, Cond.fieldLink "QuorumAlmanacModel$Node" 47 ref (fN 137).2.1 (fN 137).2.2.1 ∈ lw_all ∧ (ref = (fN 137).1 ∨ Cond.sameField ref (fN 137).1 (fN 137).2.1 (fN 137).2.2.1 ∈ lw_all) := ⟨"QuorumAlmanacModel$Node", q2022, Or.inl rfl⟩
theorem lkf_X7_53 : ∃ ref, Cond.fieldLink "QuorumAlmanacModel$Node" 53 ref (fN 54).2.1 (fN 54).2.2.1 ∈ lw_all ∧ (ref = (fN 54).1 ∨ Cond.sameField ref (fN 54).1 (fN 54).2.1 (fN 54).2.2.1 ∈ lw_all) := ⟨"QuorumAlmanacModel$Node", q1991, Or.inl rfl⟩
theorem lkf_X8_13 : ∃ ref, Cond.fieldLink "QuorumAlmanacModel$Snapshot" 13 ref (fN 69).2.1 (fN 69).2.2.1 ∈ lw_all ∧ (ref = (fN 69).1 ∨ Cond.sameField ref (fN 69).1 (fN 69).2.1 (fN 69).2.2.1 ∈ lw_all) := ⟨"QuorumAlmanacModel$Snapshot", q1972, Or.inl rfl⟩
theorem lkf_X8_16 : ∃ ref, Cond.fieldLink "QuorumAlmanacModel$Snapshot" 16 ref (fN 70).2.1 (fN 70).2.2.1 ∈ lw_all ∧ (ref = (fN 70).1 ∨ Cond.sameField ref (fN 70).1 (fN 70).2.1 (fN 70).2.2.1 ∈ lw_all) := ⟨"QuorumAlmanacModel$Snapshot", q1974, Or.inl rfl⟩
theorem lkf_X8_19 : ∃ ref, Cond.fieldLink "QuorumAlmanacModel$Snapshot" 19 ref (fN 71).2.1 (fN 71).2.2.1 ∈ lw_all ∧ (ref = (fN 71).1 ∨ Cond.sameField ref (fN 71).1 (fN 71).2.1 (fN 71).2.2.1 ∈ lw_all) := ⟨"QuorumAlmanacModel$Snapshot", q1976, Or.inl rfl⟩
theorem lkf_X8_22 : ∃ ref, Cond.fieldLink "QuorumAlmanacModel$Snapshot" 22 ref (fN 140).2.1 (fN 140).2.2.1 ∈ lw_all ∧ (ref = (fN 140).1 ∨ Cond.sameField ref (fN 140).1 (fN 140).2.1 (fN 140).2.2.1 ∈ lw_all) := ⟨"QuorumAlmanacModel$Snapshot", q1978, Or.inl rfl⟩
theorem lkf_X8_7 : ∃ ref, Cond.fieldLink "QuorumAlmanacModel$Snapshot" 7 ref (fN 68).2.1 (fN 68).2.2.1 ∈ lw_all ∧ (ref = (fN 68).1 ∨ Cond.sameField ref (fN 68).1 (fN 68).2.1 (fN 68).2.2.1 ∈ lw_all) := ⟨"QuorumAlmanacModel$Snapshot", q1969, Or.inl rfl⟩
theorem lkf_X9_15 : ∃ ref, Cond.fieldLink "QuorumAlmanacModel$Store" 15 ref (fN 142).2.1 (fN 142).2.2.1 ∈ lw_all ∧ (ref = (fN 142).1 ∨ Cond.sameField ref (fN 142).1 (fN 142).2.1 (fN 142).2.2.1 ∈ lw_all) := ⟨"QuorumAlmanacModel$Store", q1958, Or.inl rfl⟩
theorem lkf_X9_9 : ∃ ref, Cond.fieldLink "QuorumAlmanacModel$Store" 9 ref (fN 141).2.1 (fN 141).2.2.1 ∈ lw_all ∧ (ref = (fN 141).1 ∨ Cond.sameField ref (fN 141).1 (fN 141).2.1 (fN 141).2.2.1 ∈ lw_all) := ⟨"QuorumAlmanacModel$Store", q1955, Or.inl rfl⟩
theorem oe_1 : okE "QuorumAlmanac" [1] := fun kk h => by
  obtain rfl := List.mem_singleton.mp h
  exact ⟨0, qcl 0, rfl, rfl, rfl⟩
theorem oc_java_lang_Integer_24 : okC "java/lang/Integer" [24] := fun kk h => by
  obtain rfl := List.mem_singleton.mp h
  exact ⟨23, qcl 23, rfl, rfl, Or.inl rfl⟩
theorem oe_22 : okE "java/util/ArrayList" [22] := fun kk h => by
  obtain rfl := List.mem_singleton.mp h
  exact ⟨21, qcl 21, rfl, rfl, rfl⟩
theorem oe_2 : okE "QuorumAlmanac$Node" [2] := fun kk h => by
  obtain rfl := List.mem_singleton.mp h
  exact ⟨1, qcl 1, rfl, rfl, rfl⟩
theorem oc_QuorumAlmanac_Entry_9 : okC "QuorumAlmanac$Entry" [9] := fun kk h => by
  obtain rfl := List.mem_singleton.mp h
  exact ⟨8, qcl 8, rfl, rfl, Or.inl rfl⟩
theorem oe_3 : okE "QuorumAlmanac$Members" [3] := fun kk h => by
  obtain rfl := List.mem_singleton.mp h
  exact ⟨2, qcl 2, rfl, rfl, rfl⟩
theorem oc_QuorumAlmanac_Read_13 : okC "QuorumAlmanac$Read" [13] := fun kk h => by
  obtain rfl := List.mem_singleton.mp h
  exact ⟨12, qcl 12, rfl, rfl, Or.inl rfl⟩
theorem oe_23 : okE "java/util/ArrayList$Itr" [23] := fun kk h => by
  obtain rfl := List.mem_singleton.mp h
  exact ⟨22, qcl 22, rfl, rfl, rfl⟩
theorem oc_java_lang_Object_6_7_8_9_10_12_13_19_20_21_24 : okC "java/lang/Object" [6, 7, 8, 9, 10, 12, 13, 19, 20, 21, 24] := by
  intro kk h
  simp only [List.mem_cons, List.not_mem_nil, or_false] at h
  rcases h with rfl | rfl | rfl | rfl | rfl | rfl | rfl | rfl | rfl | rfl | rfl
  · exact ⟨5, qcl 5, rfl, rfl, Or.inr q2652⟩
  · exact ⟨6, qcl 6, rfl, rfl, Or.inr q2653⟩
  · exact ⟨7, qcl 7, rfl, rfl, Or.inr q2656⟩
  · exact ⟨8, qcl 8, rfl, rfl, Or.inr q2657⟩
  · exact ⟨9, qcl 9, rfl, rfl, Or.inr q2660⟩
  · exact ⟨11, qcl 11, rfl, rfl, Or.inr q2663⟩
  · exact ⟨12, qcl 12, rfl, rfl, Or.inr q2665⟩
  · exact ⟨18, qcl 18, rfl, rfl, Or.inr q2658⟩
  · exact ⟨19, qcl 19, rfl, rfl, Or.inr q2659⟩
  · exact ⟨20, qcl 20, rfl, rfl, Or.inr q2666⟩
  · exact ⟨23, qcl 23, rfl, rfl, Or.inr q2651⟩
theorem oe_24 : okE "java/lang/Integer" [24] := fun kk h => by
  obtain rfl := List.mem_singleton.mp h
  exact ⟨23, qcl 23, rfl, rfl, rfl⟩
theorem oe_9 : okE "QuorumAlmanac$Entry" [9] := fun kk h => by
  obtain rfl := List.mem_singleton.mp h
  exact ⟨8, qcl 8, rfl, rfl, rfl⟩
theorem oe_4 : okE "QuorumAlmanac$Store" [4] := fun kk h => by
  obtain rfl := List.mem_singleton.mp h
  exact ⟨3, qcl 3, rfl, rfl, rfl⟩
theorem oc_QuorumAlmanac_Message_6_7_8_10_12 : okC "QuorumAlmanac$Message" [6, 7, 8, 10, 12] := by
  intro kk h
  simp only [List.mem_cons, List.not_mem_nil, or_false] at h
  rcases h with rfl | rfl | rfl | rfl | rfl
  · exact ⟨5, qcl 5, rfl, rfl, Or.inr q2633⟩
  · exact ⟨6, qcl 6, rfl, rfl, Or.inr q2632⟩
  · exact ⟨7, qcl 7, rfl, rfl, Or.inr q2635⟩
  · exact ⟨9, qcl 9, rfl, rfl, Or.inr q2631⟩
  · exact ⟨11, qcl 11, rfl, rfl, Or.inr q2634⟩
theorem oe_6 : okE "QuorumAlmanac$Install" [6] := fun kk h => by
  obtain rfl := List.mem_singleton.mp h
  exact ⟨5, qcl 5, rfl, rfl, rfl⟩
theorem oe_7 : okE "QuorumAlmanac$Append" [7] := fun kk h => by
  obtain rfl := List.mem_singleton.mp h
  exact ⟨6, qcl 6, rfl, rfl, rfl⟩
theorem oe_8 : okE "QuorumAlmanac$Wish" [8] := fun kk h => by
  obtain rfl := List.mem_singleton.mp h
  exact ⟨7, qcl 7, rfl, rfl, rfl⟩
theorem oe_10 : okE "QuorumAlmanac$Answer" [10] := fun kk h => by
  obtain rfl := List.mem_singleton.mp h
  exact ⟨9, qcl 9, rfl, rfl, rfl⟩
theorem oe_12 : okE "QuorumAlmanac$Voice" [12] := fun kk h => by
  obtain rfl := List.mem_singleton.mp h
  exact ⟨11, qcl 11, rfl, rfl, rfl⟩
theorem oe_19 : okE "QuorumAlmanacModel$Message" [19] := fun kk h => by
  obtain rfl := List.mem_singleton.mp h
  exact ⟨18, qcl 18, rfl, rfl, rfl⟩
theorem ok_6_7_10 : okK [6, 7, 10] := by
  intro kk h
  simp only [List.mem_cons, List.not_mem_nil, or_false] at h
  rcases h with rfl | rfl | rfl
  · exact ⟨5, qcl 5, rfl, rfl⟩
  · exact ⟨6, qcl 6, rfl, rfl⟩
  · exact ⟨9, qcl 9, rfl, rfl⟩
theorem oc_QuorumAlmanac_Refused_11 : okC "QuorumAlmanac$Refused" [11] := fun kk h => by
  obtain rfl := List.mem_singleton.mp h
  exact ⟨10, qcl 10, rfl, rfl, Or.inl rfl⟩
theorem ok_8 : okK [8] := fun kk h => by
  obtain rfl := List.mem_singleton.mp h
  exact ⟨7, qcl 7, rfl, rfl⟩
theorem ok_10 : okK [10] := fun kk h => by
  obtain rfl := List.mem_singleton.mp h
  exact ⟨9, qcl 9, rfl, rfl⟩
theorem ok_12 : okK [12] := fun kk h => by
  obtain rfl := List.mem_singleton.mp h
  exact ⟨11, qcl 11, rfl, rfl⟩
theorem oc_QuorumAlmanac_Node_2 : okC "QuorumAlmanac$Node" [2] := fun kk h => by
  obtain rfl := List.mem_singleton.mp h
  exact ⟨1, qcl 1, rfl, rfl, Or.inl rfl⟩
theorem oe_14 : okE "QuorumAlmanac$Place" [14] := fun kk h => by
  obtain rfl := List.mem_singleton.mp h
  exact ⟨13, qcl 13, rfl, rfl, rfl⟩
theorem oc_java_util_HashMap_Node_26 : okC "java/util/HashMap$Node" [26] := fun kk h => by
  obtain rfl := List.mem_singleton.mp h
  exact ⟨25, qcl 25, rfl, rfl, Or.inl rfl⟩
theorem oe_25 : okE "java/util/HashMap" [25] := fun kk h => by
  obtain rfl := List.mem_singleton.mp h
  exact ⟨24, qcl 24, rfl, rfl, rfl⟩
theorem oc_QuorumAlmanac_Place_14 : okC "QuorumAlmanac$Place" [14] := fun kk h => by
  obtain rfl := List.mem_singleton.mp h
  exact ⟨13, qcl 13, rfl, rfl, Or.inl rfl⟩
theorem oc_QuorumAlmanacModel_Node_16 : okC "QuorumAlmanacModel$Node" [16] := fun kk h => by
  obtain rfl := List.mem_singleton.mp h
  exact ⟨15, qcl 15, rfl, rfl, Or.inl rfl⟩
theorem oe_15 : okE "QuorumAlmanacModel" [15] := fun kk h => by
  obtain rfl := List.mem_singleton.mp h
  exact ⟨14, qcl 14, rfl, rfl, rfl⟩
theorem oe_16 : okE "QuorumAlmanacModel$Node" [16] := fun kk h => by
  obtain rfl := List.mem_singleton.mp h
  exact ⟨15, qcl 15, rfl, rfl, rfl⟩
theorem oc_QuorumAlmanacModel_Entry_20 : okC "QuorumAlmanacModel$Entry" [20] := fun kk h => by
  obtain rfl := List.mem_singleton.mp h
  exact ⟨19, qcl 19, rfl, rfl, Or.inl rfl⟩
theorem oc_QuorumAlmanacModel_Message_19 : okC "QuorumAlmanacModel$Message" [19] := fun kk h => by
  obtain rfl := List.mem_singleton.mp h
  exact ⟨18, qcl 18, rfl, rfl, Or.inl rfl⟩
theorem oe_18 : okE "QuorumAlmanacModel$Store" [18] := fun kk h => by
  obtain rfl := List.mem_singleton.mp h
  exact ⟨17, qcl 17, rfl, rfl, rfl⟩
theorem oc_QuorumAlmanacModel_Read_21 : okC "QuorumAlmanacModel$Read" [21] := fun kk h => by
  obtain rfl := List.mem_singleton.mp h
  exact ⟨20, qcl 20, rfl, rfl, Or.inl rfl⟩
theorem hx_Iterator_hasNext : ("java/util/Iterator" ≠ "java/lang/invoke/MethodHandle" ∧ "java/util/Iterator" ≠ "java/lang/invoke/VarHandle" ∧ (parseMethodDescriptor "()Z").map (fun d => d.parameters.length) = some 0) := by decide +kernel
theorem hx_Iterator_next : ("java/util/Iterator" ≠ "java/lang/invoke/MethodHandle" ∧ "java/util/Iterator" ≠ "java/lang/invoke/VarHandle" ∧ (parseMethodDescriptor "()Ljava/lang/Object;").map (fun d => d.parameters.length) = some 0) := by decide +kernel
theorem hx_QuorumAlmanac_Message_kind : ("QuorumAlmanac$Message" ≠ "java/lang/invoke/MethodHandle" ∧ "QuorumAlmanac$Message" ≠ "java/lang/invoke/VarHandle" ∧ (parseMethodDescriptor "()C").map (fun d => d.parameters.length) = some 0) := by decide +kernel
theorem hx_Object_equals : ("java/lang/Object" ≠ "java/lang/invoke/MethodHandle" ∧ "java/lang/Object" ≠ "java/lang/invoke/VarHandle" ∧ (parseMethodDescriptor "(Ljava/lang/Object;)Z").map (fun d => d.parameters.length) = some 1) := by decide +kernel
theorem hx_QuorumAlmanac_RoundMessage_leads : ("QuorumAlmanac$RoundMessage" ≠ "java/lang/invoke/MethodHandle" ∧ "QuorumAlmanac$RoundMessage" ≠ "java/lang/invoke/VarHandle" ∧ (parseMethodDescriptor "(LQuorumAlmanac$Node;)Z").map (fun d => d.parameters.length) = some 1) := by decide +kernel
theorem hx_QuorumAlmanac_Message_come : ("QuorumAlmanac$Message" ≠ "java/lang/invoke/MethodHandle" ∧ "QuorumAlmanac$Message" ≠ "java/lang/invoke/VarHandle" ∧ (parseMethodDescriptor "(LQuorumAlmanac$Node;)V").map (fun d => d.parameters.length) = some 1) := by decide +kernel
theorem hx_QuorumAlmanac_Message_copy : ("QuorumAlmanac$Message" ≠ "java/lang/invoke/MethodHandle" ∧ "QuorumAlmanac$Message" ≠ "java/lang/invoke/VarHandle" ∧ (parseMethodDescriptor "(I)LQuorumAlmanac$Message;").map (fun d => d.parameters.length) = some 1) := by decide +kernel
theorem hx_Object_hashCode : ("java/lang/Object" ≠ "java/lang/invoke/MethodHandle" ∧ "java/lang/Object" ≠ "java/lang/invoke/VarHandle" ∧ (parseMethodDescriptor "()I").map (fun d => d.parameters.length) = some 0) := by decide +kernel
theorem at_X1_3 : ∀ w ∈ vx_at0 "QuorumAlmanac" 3 (exN 0) ["java/lang/RuntimeException", "java/lang/Exception"], w ∈ lw_tbl ∧ mvW w = true := at_of [58, 856, 806, 816, 819, 821, 857, 858, 103, 104, 800, 805, 817, 824, 850, 825, 851, 826, 852, 801, 803, 853, 894, 895, 896, 897, 843, 897, 898, 899, 900, 845, 900, 901, 902, 857, 847, 893, 885, 886, 887, 813, 888, 889, 890, 891, 855, 854, 892] (by decide +kernel) (by decide +kernel)
theorem at_X1_12 : ∀ w ∈ vx_at0 "QuorumAlmanac" 12 (exN 1) ["java/lang/RuntimeException", "java/lang/Exception"], w ∈ lw_tbl ∧ mvW w = true := at_of [58, 856, 806, 816, 819, 821, 857, 858, 103, 104, 800, 805, 817, 824, 850, 825, 851, 826, 852, 801, 803, 853, 918, 919, 920, 897, 843, 897, 898, 899, 900, 845, 900, 901, 902, 857, 847, 917, 909, 910, 911, 812, 912, 913, 914, 915, 855, 854, 916] (by decide +kernel) (by decide +kernel)
theorem at_X1_15 : ∀ w ∈ vx_at0 "QuorumAlmanac" 15 (exN 3) ["java/lang/RuntimeException", "java/lang/Exception"], w ∈ lw_tbl ∧ mvW w = true := at_of [58, 856, 806, 816, 819, 821, 857, 858, 103, 104, 800, 805, 817, 824, 850, 825, 851, 826, 852, 801, 803, 853, 1204, 1205, 1206, 897, 843, 897, 898, 899, 900, 845, 900, 901, 902, 857, 847, 1419, 1195, 1196, 1197, 815, 1198, 1199, 1200, 1201, 855, 854, 1202] (by decide +kernel) (by decide +kernel)
theorem at_X2_297 : ∀ w ∈ vx_at0 "QuorumAlmanac$Node" 297 (exN 1) ["java/lang/RuntimeException", "java/lang/Exception"], w ∈ lw_tbl ∧ mvW w = true := at_of [58, 856, 806, 816, 819, 821, 857, 858, 103, 104, 800, 805, 817, 824, 850, 825, 851, 826, 852, 801, 803, 853, 918, 919, 920, 897, 843, 897, 898, 899, 900, 845, 900, 901, 902, 857, 847, 1602, 909, 910, 911, 812, 912, 913, 914, 915, 855, 854, 916] (by decide +kernel) (by decide +kernel)
theorem at_X1_9 : ∀ w ∈ vx_at0 "QuorumAlmanac" 9 (exN 2) ["java/lang/RuntimeException", "java/lang/Exception"], w ∈ lw_tbl ∧ mvW w = true := at_of [58, 856, 806, 816, 819, 821, 857, 858, 103, 104, 800, 805, 817, 824, 850, 825, 851, 826, 852, 801, 803, 853, 1627, 1628, 1629, 897, 843, 897, 898, 899, 900, 845, 900, 901, 902, 857, 847, 1747, 1618, 1619, 1620, 811, 1621, 1622, 1623, 1624, 855, 854, 1625] (by decide +kernel) (by decide +kernel)
theorem at_X1_281 : ∀ w ∈ vx_at0 "QuorumAlmanac" 281 (exN 4) ["java/lang/RuntimeException", "java/lang/Exception"], w ∈ lw_tbl ∧ mvW w = true := at_of [58, 856, 806, 816, 819, 821, 857, 858, 103, 104, 800, 805, 817, 824, 850, 825, 851, 826, 852, 801, 803, 853, 1785, 1786, 1787, 897, 843, 897, 898, 899, 900, 845, 900, 901, 902, 857, 847, 1784, 1776, 1777, 1778, 814, 1779, 1780, 1781, 1782, 855, 854, 1783] (by decide +kernel) (by decide +kernel)
theorem at_X1_338 : ∀ w ∈ vx_at0 "QuorumAlmanac" 338 (exN 5) ["java/lang/RuntimeException", "java/lang/Exception"], w ∈ lw_tbl ∧ mvW w = true := at_of [58, 856, 806, 816, 819, 821, 857, 858, 103, 104, 800, 805, 817, 824, 850, 825, 851, 826, 852, 801, 803, 853, 1927, 1928, 1929, 897, 843, 897, 898, 899, 900, 845, 900, 901, 902, 857, 847, 1926, 1908, 1919, 1920, 809, 1914, 1915, 1917, 1913, 855, 854, 1912] (by decide +kernel) (by decide +kernel)
theorem rfW_in : ∀ w ∈ rfW, w ∈ lw_all := by
  intro w hw
  simp only [rfW, List.mem_cons, List.not_mem_nil, or_false] at hw
  rcases hw with rfl | rfl | rfl | rfl | rfl
  · exact q1595
  · exact q808
  · exact q1597
  · exact q1593
  · exact q807
theorem gcW_in : ∀ w ∈ gcW "QuorumAlmanac$Node" 326, w ∈ lw_all := by
  intro w hw
  simp only [gcW, List.mem_cons, List.not_mem_nil, or_false] at hw
  rcases hw with rfl | rfl | rfl | rfl | rfl | rfl | rfl
  · exact q1636
  · exact q1637
  · exact q1639
  · exact q1640
  · exact q1641
  · exact q824
  · exact q850
theorem nc_2_0 {G : GT} : GOK G → va_Nc (exN 2) "java/lang/IndexOutOfBoundsException" G.2.1 := fun h => va_Nc.of (flat_of_before _ h.2.2.2.2.2.2 _ (by decide +kernel))
theorem nc_1_2 {G : GT} : GOK G → va_Nc (exN 1) "java/lang/IllegalArgumentException" G.2.1 := fun h => va_Nc.of (flat_of_before _ h.2.2.2.2.2.2 _ (by decide +kernel))
theorem nc_1_0 {G : GT} : GOK G → va_Nc (exN 1) "java/lang/IndexOutOfBoundsException" G.2.1 := fun h => va_Nc.of (flat_of_before _ h.2.2.2.2.2.2 _ (by decide +kernel))
theorem nc_4_2 {G : GT} : GOK G → va_Nc (exN 4) "java/lang/IllegalArgumentException" G.2.1 := fun h => va_Nc.of (flat_of_before _ h.2.2.2.2.2.2 _ (by decide +kernel))
theorem nc_4_1 {G : GT} : GOK G → va_Nc (exN 4) "java/lang/IllegalStateException" G.2.1 := fun h => va_Nc.of (flat_of_before _ h.2.2.2.2.2.2 _ (by decide +kernel))
theorem nc_4_0 {G : GT} : GOK G → va_Nc (exN 4) "java/lang/IndexOutOfBoundsException" G.2.1 := fun h => va_Nc.of (flat_of_before _ h.2.2.2.2.2.2 _ (by decide +kernel))
theorem nc_3_0 {G : GT} : GOK G → va_Nc (exN 3) "java/lang/IndexOutOfBoundsException" G.2.1 := fun h => va_Nc.of (flat_of_before _ h.2.2.2.2.2.2 _ (by decide +kernel))
