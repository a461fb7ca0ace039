/-! FACTS of the tables: each row of them rests on a word of the launch -/
set_option maxRecDepth 100000
theorem q1241 : (Jvm.Cond.fieldLink "ModulaWorks" (32 : Nat) "ModulaWorks" "tape" "[B") ∈ lw_all := lw_g (lw_at lw_m4 237 rfl) rfl
theorem q1243 : (Jvm.Cond.fieldLink "ModulaWorks" (39 : Nat) "ModulaWorks" "words" "LModulaWorks$Words;") ∈ lw_all := lw_g (lw_at lw_m4 239 rfl) rfl
theorem q1244 : (Jvm.Cond.fieldLink "ModulaWorks" (48 : Nat) "ModulaWorks" "shelf" "LModulaWorks$Shelf;") ∈ lw_all := lw_g (lw_at lw_m5 0 rfl) rfl
theorem q1245 : (Jvm.Cond.fieldLink "ModulaWorks" (55 : Nat) "ModulaWorks" "form" "LModulaWorks$Form;") ∈ lw_all := lw_g (lw_at lw_m5 1 rfl) rfl
theorem q1246 : (Jvm.Cond.fieldLink "ModulaWorks" (64 : Nat) "ModulaWorks" "sense" "LModulaWorks$Sense;") ∈ lw_all := lw_g (lw_at lw_m5 2 rfl) rfl
theorem q1247 : (Jvm.Cond.fieldLink "ModulaWorks" (71 : Nat) "ModulaWorks" "runtime" "LModulaWorks$Kernel;") ∈ lw_all := lw_g (lw_at lw_m5 3 rfl) rfl
theorem q1248 : (Jvm.Cond.fieldLink "ModulaWorks" (78 : Nat) "ModulaWorks" "program" "LModulaWorks$Program;") ∈ lw_all := lw_g (lw_at lw_m5 4 rfl) rfl
theorem q1249 : (Jvm.Cond.fieldLink "ModulaWorks" (85 : Nat) "ModulaWorks" "spare" "LModulaWorks$Unit;") ∈ lw_all := lw_g (lw_at lw_m5 5 rfl) rfl
theorem q1252 : (Jvm.Cond.fieldLink "ModulaWorks" (89 : Nat) "ModulaWorks" "faultPlace" "I") ∈ lw_all := lw_g (lw_at lw_m5 8 rfl) rfl
theorem q1254 : (Jvm.Cond.fieldLink "ModulaWorks" (93 : Nat) "ModulaWorks" "order" "[LModulaWorks$Unit;") ∈ lw_all := lw_g (lw_at lw_m5 10 rfl) rfl
theorem q1255 : (Jvm.Cond.fieldLink "ModulaWorks" (97 : Nat) "ModulaWorks" "orderNumber" "[I") ∈ lw_all := lw_g (lw_at lw_m5 11 rfl) rfl
theorem q1256 : (Jvm.Cond.fieldLink "ModulaWorks" (101 : Nat) "ModulaWorks" "from" "[I") ∈ lw_all := lw_g (lw_at lw_m5 12 rfl) rfl
theorem q1262 : (Jvm.Cond.fieldLink "ModulaWorks" (107 : Nat) "ModulaWorks" "plugs" "LModulaWorks$Plugs;") ∈ lw_all := lw_g (lw_at lw_m5 18 rfl) rfl
theorem q1263 : (Jvm.Cond.fieldLink "ModulaWorks" (116 : Nat) "ModulaWorks" "plain" "LModulaWorks$Chip;") ∈ lw_all := lw_g (lw_at lw_m5 19 rfl) rfl
theorem q1242 : (Jvm.Cond.fieldLink "ModulaWorks" (120 : Nat) "ModulaWorks" "taped" "I") ∈ lw_all := lw_g (lw_at lw_m4 238 rfl) rfl
theorem q1251 : (Jvm.Cond.fieldLink "ModulaWorks" (127 : Nat) "ModulaWorks" "fault" "I") ∈ lw_all := lw_g (lw_at lw_m5 7 rfl) rfl
theorem q1250 : (Jvm.Cond.fieldLink "ModulaWorks" (130 : Nat) "ModulaWorks" "hasCompiled" "Z") ∈ lw_all := lw_g (lw_at lw_m5 6 rfl) rfl
theorem q438 : (Jvm.Cond.fieldLinkNest "ModulaWorks" (134 : Nat) "ModulaWorks$Unit" "text" "LModulaWorks$Text;" "ModulaWorks") ∈ lw_tbl := lw_at lw_m1 154 rfl
theorem q404 : (Jvm.Cond.fieldLinkNest "ModulaWorks" (149 : Nat) "ModulaWorks$Text" "kinds" "[S" "ModulaWorks") ∈ lw_tbl := lw_at lw_m1 120 rfl
theorem q583 : (Jvm.Cond.fieldLinkNest "ModulaWorks" (153 : Nat) "ModulaWorks$Form" "at" "I" "ModulaWorks") ∈ lw_tbl := lw_at lw_m2 59 rfl
theorem q407 : (Jvm.Cond.fieldLinkNest "ModulaWorks" (156 : Nat) "ModulaWorks$Text" "places" "[S" "ModulaWorks") ∈ lw_tbl := lw_at lw_m1 123 rfl
theorem q1253 : (Jvm.Cond.fieldLink "ModulaWorks" (166 : Nat) "ModulaWorks" "mark" "I") ∈ lw_all := lw_g (lw_at lw_m5 9 rfl) rfl
theorem q399 : (Jvm.Cond.fieldLinkNest "ModulaWorks" (169 : Nat) "ModulaWorks$Text" "size" "I" "ModulaWorks") ∈ lw_tbl := lw_at lw_m1 115 rfl
theorem q685 : (Jvm.Cond.fieldLinkNest "ModulaWorks" (180 : Nat) "ModulaWorks$Sense" "fault" "I" "ModulaWorks") ∈ lw_tbl := lw_at lw_m2 161 rfl
theorem q684 : (Jvm.Cond.fieldLinkNest "ModulaWorks" (181 : Nat) "ModulaWorks$Sense" "item" "I" "ModulaWorks") ∈ lw_tbl := lw_at lw_m2 160 rfl
theorem q444 : (Jvm.Cond.fieldLinkNest "ModulaWorks" (188 : Nat) "ModulaWorks$Unit" "kind" "I" "ModulaWorks") ∈ lw_tbl := lw_at lw_m1 160 rfl
theorem q450 : (Jvm.Cond.fieldLinkNest "ModulaWorks" (191 : Nat) "ModulaWorks$Unit" "first" "J" "ModulaWorks") ∈ lw_tbl := lw_at lw_m1 166 rfl
theorem q454 : (Jvm.Cond.fieldLinkNest "ModulaWorks" (194 : Nat) "ModulaWorks$Unit" "second" "J" "ModulaWorks") ∈ lw_tbl := lw_at lw_m1 170 rfl
theorem q503 : (Jvm.Cond.fieldLinkNest "ModulaWorks" (201 : Nat) "ModulaWorks$Shelf" "units" "[LModulaWorks$Unit;" "ModulaWorks") ∈ lw_tbl := lw_at lw_m1 219 rfl
theorem q441 : (Jvm.Cond.fieldLinkNest "ModulaWorks" (204 : Nat) "ModulaWorks$Unit" "isThere" "Z" "ModulaWorks") ∈ lw_tbl := lw_at lw_m1 157 rfl
theorem q458 : (Jvm.Cond.fieldLinkNest "ModulaWorks" (211 : Nat) "ModulaWorks$Unit" "imports" "I" "ModulaWorks") ∈ lw_tbl := lw_at lw_m1 174 rfl
theorem q467 : (Jvm.Cond.fieldLinkNest "ModulaWorks" (214 : Nat) "ModulaWorks$Unit" "importKey" "[I" "ModulaWorks") ∈ lw_tbl := lw_at lw_m1 183 rfl
theorem q461 : (Jvm.Cond.fieldLinkNest "ModulaWorks" (217 : Nat) "ModulaWorks$Unit" "importFirst" "[J" "ModulaWorks") ∈ lw_tbl := lw_at lw_m1 177 rfl
theorem q464 : (Jvm.Cond.fieldLinkNest "ModulaWorks" (221 : Nat) "ModulaWorks$Unit" "importSecond" "[J" "ModulaWorks") ∈ lw_tbl := lw_at lw_m1 180 rfl
theorem q447 : (Jvm.Cond.fieldLinkNest "ModulaWorks" (228 : Nat) "ModulaWorks$Unit" "key" "I" "ModulaWorks") ∈ lw_tbl := lw_at lw_m1 163 rfl
theorem q396 : (Jvm.Cond.fieldLinkNest "ModulaWorks" (231 : Nat) "ModulaWorks$Text" "bytes" "[B" "ModulaWorks") ∈ lw_tbl := lw_at lw_m1 112 rfl
theorem q1258 : (Jvm.Cond.fieldLink "ModulaWorks" (249 : Nat) "ModulaWorks" "isMissing" "Z") ∈ lw_all := lw_g (lw_at lw_m5 14 rfl) rfl
theorem q1257 : (Jvm.Cond.fieldLink "ModulaWorks" (258 : Nat) "ModulaWorks" "ordered" "I") ∈ lw_all := lw_g (lw_at lw_m5 13 rfl) rfl
theorem q1261 : (Jvm.Cond.fieldLink "ModulaWorks" (261 : Nat) "ModulaWorks" "ownBytes" "I") ∈ lw_all := lw_g (lw_at lw_m5 17 rfl) rfl
theorem q1260 : (Jvm.Cond.fieldLink "ModulaWorks" (264 : Nat) "ModulaWorks" "allBytes" "I") ∈ lw_all := lw_g (lw_at lw_m5 16 rfl) rfl
theorem q1259 : (Jvm.Cond.fieldLink "ModulaWorks" (267 : Nat) "ModulaWorks" "isOther" "Z") ∈ lw_all := lw_g (lw_at lw_m5 15 rfl) rfl
theorem q703 : (Jvm.Cond.fieldLinkNest "ModulaWorks" (281 : Nat) "ModulaWorks$Sense" "data" "I" "ModulaWorks") ∈ lw_tbl := lw_at lw_m2 179 rfl
theorem q1071 : (Jvm.Cond.fieldLinkNest "ModulaWorks" (284 : Nat) "ModulaWorks$Kernel" "bytes" "[B" "ModulaWorks") ∈ lw_tbl := lw_at lw_m4 67 rfl
theorem q1151 : (Jvm.Cond.fieldLinkNest "ModulaWorks" (285 : Nat) "ModulaWorks$Program" "image" "[B" "ModulaWorks") ∈ lw_tbl := lw_at lw_m4 147 rfl
theorem q680 : (Jvm.Cond.fieldLinkNest "ModulaWorks" (294 : Nat) "ModulaWorks$Sense" "maker" "LModulaWorks$Maker;" "ModulaWorks") ∈ lw_tbl := lw_at lw_m2 156 rfl
theorem q641 : (Jvm.Cond.fieldLinkNest "ModulaWorks" (298 : Nat) "ModulaWorks$Maker" "bytes" "[B" "ModulaWorks") ∈ lw_tbl := lw_at lw_m2 117 rfl
theorem q1153 : (Jvm.Cond.fieldLinkNest "ModulaWorks" (304 : Nat) "ModulaWorks$Program" "begin" "I" "ModulaWorks") ∈ lw_tbl := lw_at lw_m4 149 rfl
theorem q1155 : (Jvm.Cond.fieldLinkNest "ModulaWorks" (307 : Nat) "ModulaWorks$Program" "modules" "I" "ModulaWorks") ∈ lw_tbl := lw_at lw_m4 151 rfl
theorem q1157 : (Jvm.Cond.fieldLinkNest "ModulaWorks" (310 : Nat) "ModulaWorks$Program" "moduleFrom" "[I" "ModulaWorks") ∈ lw_tbl := lw_at lw_m4 153 rfl
theorem q1159 : (Jvm.Cond.fieldLinkNest "ModulaWorks" (313 : Nat) "ModulaWorks$Program" "moduleUnit" "[I" "ModulaWorks") ∈ lw_tbl := lw_at lw_m4 155 rfl
theorem q1160 : (Jvm.Cond.fieldLinkNest "ModulaWorks" (316 : Nat) "ModulaWorks$Program" "isLinked" "Z" "ModulaWorks") ∈ lw_tbl := lw_at lw_m4 156 rfl
theorem q1164 : (Jvm.Cond.fieldLinkNest "ModulaWorks" (319 : Nat) "ModulaWorks$Program" "state" "I" "ModulaWorks") ∈ lw_tbl := lw_at lw_m4 160 rfl
theorem q1175 : (Jvm.Cond.fieldLinkNest "ModulaWorks" (332 : Nat) "ModulaWorks$Program" "outputSize" "I" "ModulaWorks") ∈ lw_tbl := lw_at lw_m4 171 rfl
theorem q1172 : (Jvm.Cond.fieldLinkNest "ModulaWorks" (335 : Nat) "ModulaWorks$Program" "output" "[B" "ModulaWorks") ∈ lw_tbl := lw_at lw_m4 168 rfl
theorem q371 : (Jvm.Cond.fieldLink "ModulaWorks$Words" (91 : Nat) "ModulaWorks$Words" "reserved" "[Ljava/lang/String;") ∈ lw_all := lw_g (lw_at lw_m1 87 rfl) rfl
theorem q502 : (Jvm.Cond.fieldLink "ModulaWorks$Shelf" (11 : Nat) "ModulaWorks$Shelf" "units" "[LModulaWorks$Unit;") ∈ lw_all := lw_g (lw_at lw_m1 218 rfl) rfl
theorem q457 : (Jvm.Cond.fieldLinkNest "ModulaWorks$Shelf" (28 : Nat) "ModulaWorks$Unit" "imports" "I" "ModulaWorks") ∈ lw_tbl := lw_at lw_m1 173 rfl
theorem q460 : (Jvm.Cond.fieldLinkNest "ModulaWorks$Shelf" (32 : Nat) "ModulaWorks$Unit" "importFirst" "[J" "ModulaWorks") ∈ lw_tbl := lw_at lw_m1 176 rfl
theorem q463 : (Jvm.Cond.fieldLinkNest "ModulaWorks$Shelf" (36 : Nat) "ModulaWorks$Unit" "importSecond" "[J" "ModulaWorks") ∈ lw_tbl := lw_at lw_m1 179 rfl
theorem q446 : (Jvm.Cond.fieldLinkNest "ModulaWorks$Shelf" (47 : Nat) "ModulaWorks$Unit" "key" "I" "ModulaWorks") ∈ lw_tbl := lw_at lw_m1 162 rfl
theorem q466 : (Jvm.Cond.fieldLinkNest "ModulaWorks$Shelf" (50 : Nat) "ModulaWorks$Unit" "importKey" "[I" "ModulaWorks") ∈ lw_tbl := lw_at lw_m1 182 rfl
theorem q443 : (Jvm.Cond.fieldLinkNest "ModulaWorks$Shelf" (70 : Nat) "ModulaWorks$Unit" "kind" "I" "ModulaWorks") ∈ lw_tbl := lw_at lw_m1 159 rfl
theorem q449 : (Jvm.Cond.fieldLinkNest "ModulaWorks$Shelf" (73 : Nat) "ModulaWorks$Unit" "first" "J" "ModulaWorks") ∈ lw_tbl := lw_at lw_m1 165 rfl
theorem q453 : (Jvm.Cond.fieldLinkNest "ModulaWorks$Shelf" (77 : Nat) "ModulaWorks$Unit" "second" "J" "ModulaWorks") ∈ lw_tbl := lw_at lw_m1 169 rfl
theorem q504 : (Jvm.Cond.fieldLink "ModulaWorks$Shelf" (95 : Nat) "ModulaWorks$Shelf" "sessions" "I") ∈ lw_all := lw_g (lw_at lw_m1 220 rfl) rfl
theorem q459 : (Jvm.Cond.fieldLink "ModulaWorks$Unit" (9 : Nat) "ModulaWorks$Unit" "importFirst" "[J") ∈ lw_all := lw_g (lw_at lw_m1 175 rfl) rfl
theorem q462 : (Jvm.Cond.fieldLink "ModulaWorks$Unit" (15 : Nat) "ModulaWorks$Unit" "importSecond" "[J") ∈ lw_all := lw_g (lw_at lw_m1 178 rfl) rfl
theorem q465 : (Jvm.Cond.fieldLink "ModulaWorks$Unit" (18 : Nat) "ModulaWorks$Unit" "importKey" "[I") ∈ lw_all := lw_g (lw_at lw_m1 181 rfl) rfl
theorem q436 : (Jvm.Cond.fieldLink "ModulaWorks$Unit" (27 : Nat) "ModulaWorks$Unit" "text" "LModulaWorks$Text;") ∈ lw_all := lw_g (lw_at lw_m1 152 rfl) rfl
theorem q440 : (Jvm.Cond.fieldLink "ModulaWorks$Unit" (31 : Nat) "ModulaWorks$Unit" "isThere" "Z") ∈ lw_all := lw_g (lw_at lw_m1 156 rfl) rfl
theorem q442 : (Jvm.Cond.fieldLink "ModulaWorks$Unit" (35 : Nat) "ModulaWorks$Unit" "kind" "I") ∈ lw_all := lw_g (lw_at lw_m1 158 rfl) rfl
theorem q448 : (Jvm.Cond.fieldLink "ModulaWorks$Unit" (39 : Nat) "ModulaWorks$Unit" "first" "J") ∈ lw_all := lw_g (lw_at lw_m1 164 rfl) rfl
theorem q452 : (Jvm.Cond.fieldLink "ModulaWorks$Unit" (43 : Nat) "ModulaWorks$Unit" "second" "J") ∈ lw_all := lw_g (lw_at lw_m1 168 rfl) rfl
theorem q456 : (Jvm.Cond.fieldLink "ModulaWorks$Unit" (46 : Nat) "ModulaWorks$Unit" "imports" "I") ∈ lw_all := lw_g (lw_at lw_m1 172 rfl) rfl
theorem q403 : (Jvm.Cond.fieldLinkNest "ModulaWorks$Unit" (65 : Nat) "ModulaWorks$Text" "kinds" "[S" "ModulaWorks") ∈ lw_tbl := lw_at lw_m1 119 rfl
theorem q410 : (Jvm.Cond.fieldLinkNest "ModulaWorks$Unit" (69 : Nat) "ModulaWorks$Text" "first" "[J" "ModulaWorks") ∈ lw_tbl := lw_at lw_m1 126 rfl
theorem q413 : (Jvm.Cond.fieldLinkNest "ModulaWorks$Unit" (71 : Nat) "ModulaWorks$Text" "second" "[J" "ModulaWorks") ∈ lw_tbl := lw_at lw_m1 129 rfl
theorem q395 : (Jvm.Cond.fieldLink "ModulaWorks$Text" (9 : Nat) "ModulaWorks$Text" "bytes" "[B") ∈ lw_all := lw_g (lw_at lw_m1 111 rfl) rfl
theorem q400 : (Jvm.Cond.fieldLink "ModulaWorks$Text" (15 : Nat) "ModulaWorks$Text" "kinds" "[S") ∈ lw_all := lw_g (lw_at lw_m1 116 rfl) rfl
theorem q405 : (Jvm.Cond.fieldLink "ModulaWorks$Text" (19 : Nat) "ModulaWorks$Text" "places" "[S") ∈ lw_all := lw_g (lw_at lw_m1 121 rfl) rfl
theorem q408 : (Jvm.Cond.fieldLink "ModulaWorks$Text" (22 : Nat) "ModulaWorks$Text" "first" "[J") ∈ lw_all := lw_g (lw_at lw_m1 124 rfl) rfl
theorem q411 : (Jvm.Cond.fieldLink "ModulaWorks$Text" (26 : Nat) "ModulaWorks$Text" "second" "[J") ∈ lw_all := lw_g (lw_at lw_m1 127 rfl) rfl
theorem q415 : (Jvm.Cond.fieldLink "ModulaWorks$Text" (29 : Nat) "ModulaWorks$Text" "words" "LModulaWorks$Words;") ∈ lw_all := lw_g (lw_at lw_m1 131 rfl) rfl
theorem q397 : (Jvm.Cond.fieldLink "ModulaWorks$Text" (33 : Nat) "ModulaWorks$Text" "size" "I") ∈ lw_all := lw_g (lw_at lw_m1 113 rfl) rfl
theorem q414 : (Jvm.Cond.fieldLink "ModulaWorks$Text" (41 : Nat) "ModulaWorks$Text" "tokens" "I") ∈ lw_all := lw_g (lw_at lw_m1 130 rfl) rfl
theorem q580 : (Jvm.Cond.fieldLink "ModulaWorks$Form" (12 : Nat) "ModulaWorks$Form" "wrong" "LModulaWorks$Wrong;") ∈ lw_all := lw_g (lw_at lw_m2 56 rfl) rfl
theorem q581 : (Jvm.Cond.fieldLink "ModulaWorks$Form" (18 : Nat) "ModulaWorks$Form" "text" "LModulaWorks$Text;") ∈ lw_all := lw_g (lw_at lw_m2 57 rfl) rfl
theorem q401 : (Jvm.Cond.fieldLinkNest "ModulaWorks$Form" (22 : Nat) "ModulaWorks$Text" "kinds" "[S" "ModulaWorks") ∈ lw_tbl := lw_at lw_m1 117 rfl
theorem q582 : (Jvm.Cond.fieldLink "ModulaWorks$Form" (28 : Nat) "ModulaWorks$Form" "at" "I") ∈ lw_all := lw_g (lw_at lw_m2 58 rfl) rfl
theorem q584 : (Jvm.Cond.fieldLink "ModulaWorks$Form" (39 : Nat) "ModulaWorks$Form" "open" "I") ∈ lw_all := lw_g (lw_at lw_m2 60 rfl) rfl
theorem q676 : (Jvm.Cond.fieldLink "ModulaWorks$Sense" (12 : Nat) "ModulaWorks$Sense" "wrong" "LModulaWorks$Wrong;") ∈ lw_all := lw_g (lw_at lw_m2 152 rfl) rfl
theorem q678 : (Jvm.Cond.fieldLink "ModulaWorks$Sense" (21 : Nat) "ModulaWorks$Sense" "pool" "LModulaWorks$Pool;") ∈ lw_all := lw_g (lw_at lw_m2 154 rfl) rfl
theorem q679 : (Jvm.Cond.fieldLink "ModulaWorks$Sense" (28 : Nat) "ModulaWorks$Sense" "maker" "LModulaWorks$Maker;") ∈ lw_all := lw_g (lw_at lw_m2 155 rfl) rfl
theorem q711 : (Jvm.Cond.fieldLink "ModulaWorks$Sense" (32 : Nat) "ModulaWorks$Sense" "bodies" "[I") ∈ lw_all := lw_g (lw_at lw_m2 187 rfl) rfl
theorem q712 : (Jvm.Cond.fieldLink "ModulaWorks$Sense" (36 : Nat) "ModulaWorks$Sense" "bodyUnit" "[I") ∈ lw_all := lw_g (lw_at lw_m2 188 rfl) rfl
theorem q715 : (Jvm.Cond.fieldLink "ModulaWorks$Sense" (41 : Nat) "ModulaWorks$Sense" "waiting" "[LModulaWorks$Type;") ∈ lw_all := lw_g (lw_at lw_m2 191 rfl) rfl
theorem q716 : (Jvm.Cond.fieldLink "ModulaWorks$Sense" (45 : Nat) "ModulaWorks$Sense" "waitingFirst" "[J") ∈ lw_all := lw_g (lw_at lw_m2 192 rfl) rfl
theorem q717 : (Jvm.Cond.fieldLink "ModulaWorks$Sense" (49 : Nat) "ModulaWorks$Sense" "waitingSecond" "[J") ∈ lw_all := lw_g (lw_at lw_m2 193 rfl) rfl
theorem q720 : (Jvm.Cond.fieldLink "ModulaWorks$Sense" (88 : Nat) "ModulaWorks$Sense" "functions" "[Ljava/lang/String;") ∈ lw_all := lw_g (lw_at lw_m2 196 rfl) rfl
theorem q721 : (Jvm.Cond.fieldLink "ModulaWorks$Sense" (104 : Nat) "ModulaWorks$Sense" "inOutProcs" "[Ljava/lang/String;") ∈ lw_all := lw_g (lw_at lw_m2 197 rfl) rfl
theorem q722 : (Jvm.Cond.fieldLink "ModulaWorks$Sense" (107 : Nat) "ModulaWorks$Sense" "indexes" "[LModulaWorks$Type;") ∈ lw_all := lw_g (lw_at lw_m2 198 rfl) rfl
theorem q724 : (Jvm.Cond.fieldLink "ModulaWorks$Sense" (112 : Nat) "ModulaWorks$Sense" "items" "[LModulaWorks$Item;") ∈ lw_all := lw_g (lw_at lw_m2 200 rfl) rfl
theorem q727 : (Jvm.Cond.fieldLink "ModulaWorks$Sense" (116 : Nat) "ModulaWorks$Sense" "labelLow" "[I") ∈ lw_all := lw_g (lw_at lw_m2 203 rfl) rfl
theorem q728 : (Jvm.Cond.fieldLink "ModulaWorks$Sense" (119 : Nat) "ModulaWorks$Sense" "labelHigh" "[I") ∈ lw_all := lw_g (lw_at lw_m2 204 rfl) rfl
theorem q677 : (Jvm.Cond.fieldLink "ModulaWorks$Sense" (122 : Nat) "ModulaWorks$Sense" "shelf" "LModulaWorks$Shelf;") ∈ lw_all := lw_g (lw_at lw_m2 153 rfl) rfl
theorem q681 : (Jvm.Cond.fieldLink "ModulaWorks$Sense" (126 : Nat) "ModulaWorks$Sense" "text" "LModulaWorks$Text;") ∈ lw_all := lw_g (lw_at lw_m2 157 rfl) rfl
theorem q402 : (Jvm.Cond.fieldLinkNest "ModulaWorks$Sense" (130 : Nat) "ModulaWorks$Text" "kinds" "[S" "ModulaWorks") ∈ lw_tbl := lw_at lw_m1 118 rfl
theorem q682 : (Jvm.Cond.fieldLink "ModulaWorks$Sense" (136 : Nat) "ModulaWorks$Sense" "at" "I") ∈ lw_all := lw_g (lw_at lw_m2 158 rfl) rfl
theorem q409 : (Jvm.Cond.fieldLinkNest "ModulaWorks$Sense" (144 : Nat) "ModulaWorks$Text" "first" "[J" "ModulaWorks") ∈ lw_tbl := lw_at lw_m1 125 rfl
theorem q412 : (Jvm.Cond.fieldLinkNest "ModulaWorks$Sense" (147 : Nat) "ModulaWorks$Text" "second" "[J" "ModulaWorks") ∈ lw_tbl := lw_at lw_m1 128 rfl
theorem q406 : (Jvm.Cond.fieldLinkNest "ModulaWorks$Sense" (150 : Nat) "ModulaWorks$Text" "places" "[S" "ModulaWorks") ∈ lw_tbl := lw_at lw_m1 122 rfl
theorem q683 : (Jvm.Cond.fieldLink "ModulaWorks$Sense" (153 : Nat) "ModulaWorks$Sense" "item" "I") ∈ lw_all := lw_g (lw_at lw_m2 159 rfl) rfl
theorem q725 : (Jvm.Cond.fieldLink "ModulaWorks$Sense" (156 : Nat) "ModulaWorks$Sense" "itemMany" "I") ∈ lw_all := lw_g (lw_at lw_m2 201 rfl) rfl
theorem q686 : (Jvm.Cond.fieldLink "ModulaWorks$Sense" (159 : Nat) "ModulaWorks$Sense" "fault" "I") ∈ lw_all := lw_g (lw_at lw_m2 162 rfl) rfl
theorem q689 : (Jvm.Cond.fieldLink "ModulaWorks$Sense" (162 : Nat) "ModulaWorks$Sense" "scope" "LModulaWorks$Scope;") ∈ lw_all := lw_g (lw_at lw_m2 165 rfl) rfl
theorem q1398 : (Jvm.Cond.fieldLinkNest "ModulaWorks$Sense" (172 : Nat) "ModulaWorks$Scope" "outer" "LModulaWorks$Scope;" "ModulaWorks") ∈ lw_tbl := lw_at lw_m5 154 rfl
theorem q706 : (Jvm.Cond.fieldLink "ModulaWorks$Sense" (183 : Nat) "ModulaWorks$Sense" "level" "I") ∈ lw_all := lw_g (lw_at lw_m2 182 rfl) rfl
theorem q1525 : (Jvm.Cond.fieldLinkNest "ModulaWorks$Sense" (186 : Nat) "ModulaWorks$Sym" "level" "I" "ModulaWorks") ∈ lw_tbl := lw_at lw_m6 41 rfl
theorem q1515 : (Jvm.Cond.fieldLinkNest "ModulaWorks$Sense" (193 : Nat) "ModulaWorks$Sym" "first" "J" "ModulaWorks") ∈ lw_tbl := lw_at lw_m6 31 rfl
theorem q1517 : (Jvm.Cond.fieldLinkNest "ModulaWorks$Sense" (196 : Nat) "ModulaWorks$Sym" "second" "J" "ModulaWorks") ∈ lw_tbl := lw_at lw_m6 33 rfl
theorem q1536 : (Jvm.Cond.fieldLinkNest "ModulaWorks$Sense" (202 : Nat) "ModulaWorks$Sym" "real" "LModulaWorks$Sym;" "ModulaWorks") ∈ lw_tbl := lw_at lw_m6 52 rfl
theorem q1519 : (Jvm.Cond.fieldLinkNest "ModulaWorks$Sense" (206 : Nat) "ModulaWorks$Sym" "kind" "I" "ModulaWorks") ∈ lw_tbl := lw_at lw_m6 35 rfl
theorem q1529 : (Jvm.Cond.fieldLinkNest "ModulaWorks$Sense" (209 : Nat) "ModulaWorks$Sym" "type" "LModulaWorks$Type;" "ModulaWorks") ∈ lw_tbl := lw_at lw_m6 45 rfl
theorem q1435 : (Jvm.Cond.fieldLinkNest "ModulaWorks$Sense" (213 : Nat) "ModulaWorks$Type" "form" "I" "ModulaWorks") ∈ lw_tbl := lw_at lw_m5 191 rfl
theorem q696 : (Jvm.Cond.fieldLink "ModulaWorks$Sense" (216 : Nat) "ModulaWorks$Sense" "truth" "LModulaWorks$Type;") ∈ lw_all := lw_g (lw_at lw_m2 172 rfl) rfl
theorem q1455 : (Jvm.Cond.fieldLinkNest "ModulaWorks$Sense" (219 : Nat) "ModulaWorks$Type" "members" "LModulaWorks$Sym;" "ModulaWorks") ∈ lw_tbl := lw_at lw_m5 211 rfl
theorem q1457 : (Jvm.Cond.fieldLinkNest "ModulaWorks$Sense" (222 : Nat) "ModulaWorks$Type" "count" "I" "ModulaWorks") ∈ lw_tbl := lw_at lw_m5 213 rfl
theorem q1534 : (Jvm.Cond.fieldLinkNest "ModulaWorks$Sense" (225 : Nat) "ModulaWorks$Sym" "next" "LModulaWorks$Sym;" "ModulaWorks") ∈ lw_tbl := lw_at lw_m6 50 rfl
theorem q1521 : (Jvm.Cond.fieldLinkNest "ModulaWorks$Sense" (228 : Nat) "ModulaWorks$Sym" "value" "I" "ModulaWorks") ∈ lw_tbl := lw_at lw_m6 37 rfl
theorem q1560 : (Jvm.Cond.fieldLinkNest "ModulaWorks$Sense" (231 : Nat) "ModulaWorks$Sym" "isImported" "Z" "ModulaWorks") ∈ lw_tbl := lw_at lw_m6 76 rfl
theorem q1439 : (Jvm.Cond.fieldLinkNest "ModulaWorks$Sense" (238 : Nat) "ModulaWorks$Type" "low" "I" "ModulaWorks") ∈ lw_tbl := lw_at lw_m5 195 rfl
theorem q1441 : (Jvm.Cond.fieldLinkNest "ModulaWorks$Sense" (241 : Nat) "ModulaWorks$Type" "high" "I" "ModulaWorks") ∈ lw_tbl := lw_at lw_m5 197 rfl
theorem q687 : (Jvm.Cond.fieldLink "ModulaWorks$Sense" (257 : Nat) "ModulaWorks$Sense" "session" "I") ∈ lw_all := lw_g (lw_at lw_m2 163 rfl) rfl
theorem q643 : (Jvm.Cond.fieldLinkNest "ModulaWorks$Sense" (260 : Nat) "ModulaWorks$Maker" "here" "I" "ModulaWorks") ∈ lw_tbl := lw_at lw_m2 119 rfl
theorem q704 : (Jvm.Cond.fieldLink "ModulaWorks$Sense" (263 : Nat) "ModulaWorks$Sense" "data" "I") ∈ lw_all := lw_g (lw_at lw_m2 180 rfl) rfl
theorem q713 : (Jvm.Cond.fieldLink "ModulaWorks$Sense" (266 : Nat) "ModulaWorks$Sense" "bodyMany" "I") ∈ lw_all := lw_g (lw_at lw_m2 189 rfl) rfl
theorem q705 : (Jvm.Cond.fieldLink "ModulaWorks$Sense" (269 : Nat) "ModulaWorks$Sense" "routine" "LModulaWorks$Sym;") ∈ lw_all := lw_g (lw_at lw_m2 181 rfl) rfl
theorem q719 : (Jvm.Cond.fieldLink "ModulaWorks$Sense" (272 : Nat) "ModulaWorks$Sense" "sectionFrom" "I") ∈ lw_all := lw_g (lw_at lw_m2 195 rfl) rfl
theorem q723 : (Jvm.Cond.fieldLink "ModulaWorks$Sense" (275 : Nat) "ModulaWorks$Sense" "indexMany" "I") ∈ lw_all := lw_g (lw_at lw_m2 199 rfl) rfl
theorem q729 : (Jvm.Cond.fieldLink "ModulaWorks$Sense" (278 : Nat) "ModulaWorks$Sense" "labelMany" "I") ∈ lw_all := lw_g (lw_at lw_m2 205 rfl) rfl
theorem q726 : (Jvm.Cond.fieldLink "ModulaWorks$Sense" (281 : Nat) "ModulaWorks$Sense" "pushedAt" "I") ∈ lw_all := lw_g (lw_at lw_m2 202 rfl) rfl
theorem q690 : (Jvm.Cond.fieldLink "ModulaWorks$Sense" (287 : Nat) "ModulaWorks$Sense" "standard" "LModulaWorks$Scope;") ∈ lw_all := lw_g (lw_at lw_m2 166 rfl) rfl
theorem q693 : (Jvm.Cond.fieldLink "ModulaWorks$Sense" (294 : Nat) "ModulaWorks$Sense" "integer" "LModulaWorks$Type;") ∈ lw_all := lw_g (lw_at lw_m2 169 rfl) rfl
theorem q694 : (Jvm.Cond.fieldLink "ModulaWorks$Sense" (298 : Nat) "ModulaWorks$Sense" "cardinal" "LModulaWorks$Type;") ∈ lw_all := lw_g (lw_at lw_m2 170 rfl) rfl
theorem q695 : (Jvm.Cond.fieldLink "ModulaWorks$Sense" (301 : Nat) "ModulaWorks$Sense" "character" "LModulaWorks$Type;") ∈ lw_all := lw_g (lw_at lw_m2 171 rfl) rfl
theorem q700 : (Jvm.Cond.fieldLink "ModulaWorks$Sense" (304 : Nat) "ModulaWorks$Sense" "whole" "LModulaWorks$Type;") ∈ lw_all := lw_g (lw_at lw_m2 176 rfl) rfl
theorem q701 : (Jvm.Cond.fieldLink "ModulaWorks$Sense" (307 : Nat) "ModulaWorks$Sense" "string" "LModulaWorks$Type;") ∈ lw_all := lw_g (lw_at lw_m2 177 rfl) rfl
theorem q702 : (Jvm.Cond.fieldLink "ModulaWorks$Sense" (310 : Nat) "ModulaWorks$Sense" "nil" "LModulaWorks$Type;") ∈ lw_all := lw_g (lw_at lw_m2 178 rfl) rfl
theorem q699 : (Jvm.Cond.fieldLink "ModulaWorks$Sense" (313 : Nat) "ModulaWorks$Sense" "process" "LModulaWorks$Type;") ∈ lw_all := lw_g (lw_at lw_m2 175 rfl) rfl
theorem q698 : (Jvm.Cond.fieldLink "ModulaWorks$Sense" (316 : Nat) "ModulaWorks$Sense" "plainProc" "LModulaWorks$Type;") ∈ lw_all := lw_g (lw_at lw_m2 174 rfl) rfl
theorem q1443 : (Jvm.Cond.fieldLinkNest "ModulaWorks$Sense" (319 : Nat) "ModulaWorks$Type" "host" "LModulaWorks$Type;" "ModulaWorks") ∈ lw_tbl := lw_at lw_m5 199 rfl
theorem q697 : (Jvm.Cond.fieldLink "ModulaWorks$Sense" (322 : Nat) "ModulaWorks$Sense" "bits" "LModulaWorks$Type;") ∈ lw_all := lw_g (lw_at lw_m2 173 rfl) rfl
theorem q1445 : (Jvm.Cond.fieldLinkNest "ModulaWorks$Sense" (325 : Nat) "ModulaWorks$Type" "element" "LModulaWorks$Type;" "ModulaWorks") ∈ lw_tbl := lw_at lw_m5 201 rfl
theorem q691 : (Jvm.Cond.fieldLink "ModulaWorks$Sense" (356 : Nat) "ModulaWorks$Sense" "inOut" "LModulaWorks$Sym;") ∈ lw_all := lw_g (lw_at lw_m2 167 rfl) rfl
theorem q692 : (Jvm.Cond.fieldLink "ModulaWorks$Sense" (361 : Nat) "ModulaWorks$Sense" "system" "LModulaWorks$Sym;") ∈ lw_all := lw_g (lw_at lw_m2 168 rfl) rfl
theorem q1562 : (Jvm.Cond.fieldLinkNest "ModulaWorks$Sense" (370 : Nat) "ModulaWorks$Sym" "scope" "LModulaWorks$Scope;" "ModulaWorks") ∈ lw_tbl := lw_at lw_m6 78 rfl
theorem q445 : (Jvm.Cond.fieldLinkNest "ModulaWorks$Sense" (372 : Nat) "ModulaWorks$Unit" "kind" "I" "ModulaWorks") ∈ lw_tbl := lw_at lw_m1 161 rfl
theorem q714 : (Jvm.Cond.fieldLink "ModulaWorks$Sense" (383 : Nat) "ModulaWorks$Sense" "unitNumber" "I") ∈ lw_all := lw_g (lw_at lw_m2 190 rfl) rfl
theorem q688 : (Jvm.Cond.fieldLink "ModulaWorks$Sense" (398 : Nat) "ModulaWorks$Sense" "unit" "LModulaWorks$Unit;") ∈ lw_all := lw_g (lw_at lw_m2 164 rfl) rfl
theorem q439 : (Jvm.Cond.fieldLinkNest "ModulaWorks$Sense" (402 : Nat) "ModulaWorks$Unit" "text" "LModulaWorks$Text;" "ModulaWorks") ∈ lw_tbl := lw_at lw_m1 155 rfl
theorem q1394 : (Jvm.Cond.fieldLinkNest "ModulaWorks$Sense" (445 : Nat) "ModulaWorks$Scope" "first" "LModulaWorks$Sym;" "ModulaWorks") ∈ lw_tbl := lw_at lw_m5 150 rfl
theorem q1558 : (Jvm.Cond.fieldLinkNest "ModulaWorks$Sense" (447 : Nat) "ModulaWorks$Sym" "isOfDefinition" "Z" "ModulaWorks") ∈ lw_tbl := lw_at lw_m6 74 rfl
theorem q1451 : (Jvm.Cond.fieldLinkNest "ModulaWorks$Sense" (477 : Nat) "ModulaWorks$Type" "target" "LModulaWorks$Type;" "ModulaWorks") ∈ lw_tbl := lw_at lw_m5 207 rfl
theorem q1554 : (Jvm.Cond.fieldLinkNest "ModulaWorks$Sense" (483 : Nat) "ModulaWorks$Sym" "isThere" "Z" "ModulaWorks") ∈ lw_tbl := lw_at lw_m6 70 rfl
theorem q1556 : (Jvm.Cond.fieldLinkNest "ModulaWorks$Sense" (486 : Nat) "ModulaWorks$Sym" "isForward" "Z" "ModulaWorks") ∈ lw_tbl := lw_at lw_m6 72 rfl
theorem q451 : (Jvm.Cond.fieldLinkNest "ModulaWorks$Sense" (498 : Nat) "ModulaWorks$Unit" "first" "J" "ModulaWorks") ∈ lw_tbl := lw_at lw_m1 167 rfl
theorem q455 : (Jvm.Cond.fieldLinkNest "ModulaWorks$Sense" (499 : Nat) "ModulaWorks$Unit" "second" "J" "ModulaWorks") ∈ lw_tbl := lw_at lw_m1 171 rfl
theorem q1755 : (Jvm.Cond.fieldLinkNest "ModulaWorks$Sense" (507 : Nat) "ModulaWorks$Item" "type" "LModulaWorks$Type;" "ModulaWorks") ∈ lw_tbl := lw_at lw_m7 31 rfl
theorem q1752 : (Jvm.Cond.fieldLinkNest "ModulaWorks$Sense" (508 : Nat) "ModulaWorks$Item" "value" "I" "ModulaWorks") ∈ lw_tbl := lw_at lw_m7 28 rfl
theorem q1757 : (Jvm.Cond.fieldLinkNest "ModulaWorks$Sense" (512 : Nat) "ModulaWorks$Item" "text" "LModulaWorks$Text;" "ModulaWorks") ∈ lw_tbl := lw_at lw_m7 33 rfl
theorem q1531 : (Jvm.Cond.fieldLinkNest "ModulaWorks$Sense" (513 : Nat) "ModulaWorks$Sym" "text" "LModulaWorks$Text;" "ModulaWorks") ∈ lw_tbl := lw_at lw_m6 47 rfl
theorem q1753 : (Jvm.Cond.fieldLinkNest "ModulaWorks$Sense" (514 : Nat) "ModulaWorks$Item" "length" "I" "ModulaWorks") ∈ lw_tbl := lw_at lw_m7 29 rfl
theorem q1523 : (Jvm.Cond.fieldLinkNest "ModulaWorks$Sense" (517 : Nat) "ModulaWorks$Sym" "length" "I" "ModulaWorks") ∈ lw_tbl := lw_at lw_m6 39 rfl
theorem q1437 : (Jvm.Cond.fieldLinkNest "ModulaWorks$Sense" (563 : Nat) "ModulaWorks$Type" "size" "I" "ModulaWorks") ∈ lw_tbl := lw_at lw_m5 193 rfl
theorem q1447 : (Jvm.Cond.fieldLinkNest "ModulaWorks$Sense" (568 : Nat) "ModulaWorks$Type" "index" "LModulaWorks$Type;" "ModulaWorks") ∈ lw_tbl := lw_at lw_m5 203 rfl
theorem q1449 : (Jvm.Cond.fieldLinkNest "ModulaWorks$Sense" (601 : Nat) "ModulaWorks$Type" "result" "LModulaWorks$Type;" "ModulaWorks") ∈ lw_tbl := lw_at lw_m5 205 rfl
theorem q1538 : (Jvm.Cond.fieldLinkNest "ModulaWorks$Sense" (610 : Nat) "ModulaWorks$Sym" "isVar" "Z" "ModulaWorks") ∈ lw_tbl := lw_at lw_m6 54 rfl
theorem q1540 : (Jvm.Cond.fieldLinkNest "ModulaWorks$Sense" (613 : Nat) "ModulaWorks$Sym" "isOpen" "Z" "ModulaWorks") ∈ lw_tbl := lw_at lw_m6 56 rfl
theorem q1542 : (Jvm.Cond.fieldLinkNest "ModulaWorks$Sense" (616 : Nat) "ModulaWorks$Sym" "isParameter" "Z" "ModulaWorks") ∈ lw_tbl := lw_at lw_m6 58 rfl
theorem q1527 : (Jvm.Cond.fieldLinkNest "ModulaWorks$Sense" (640 : Nat) "ModulaWorks$Sym" "place" "I" "ModulaWorks") ∈ lw_tbl := lw_at lw_m6 43 rfl
theorem q707 : (Jvm.Cond.fieldLink "ModulaWorks$Sense" (644 : Nat) "ModulaWorks$Sense" "locals" "I") ∈ lw_all := lw_g (lw_at lw_m2 183 rfl) rfl
theorem q1548 : (Jvm.Cond.fieldLinkNest "ModulaWorks$Sense" (647 : Nat) "ModulaWorks$Sym" "bytes" "I" "ModulaWorks") ∈ lw_tbl := lw_at lw_m6 64 rfl
theorem q1544 : (Jvm.Cond.fieldLinkNest "ModulaWorks$Sense" (650 : Nat) "ModulaWorks$Sym" "members" "LModulaWorks$Sym;" "ModulaWorks") ∈ lw_tbl := lw_at lw_m6 60 rfl
theorem q1546 : (Jvm.Cond.fieldLinkNest "ModulaWorks$Sense" (651 : Nat) "ModulaWorks$Sym" "count" "I" "ModulaWorks") ∈ lw_tbl := lw_at lw_m6 62 rfl
theorem q1552 : (Jvm.Cond.fieldLinkNest "ModulaWorks$Sense" (652 : Nat) "ModulaWorks$Sym" "result" "LModulaWorks$Type;" "ModulaWorks") ∈ lw_tbl := lw_at lw_m6 68 rfl
theorem q708 : (Jvm.Cond.fieldLink "ModulaWorks$Sense" (660 : Nat) "ModulaWorks$Sense" "hidden" "I") ∈ lw_all := lw_g (lw_at lw_m2 184 rfl) rfl
theorem q709 : (Jvm.Cond.fieldLink "ModulaWorks$Sense" (663 : Nat) "ModulaWorks$Sense" "loops" "I") ∈ lw_all := lw_g (lw_at lw_m2 185 rfl) rfl
theorem q710 : (Jvm.Cond.fieldLink "ModulaWorks$Sense" (666 : Nat) "ModulaWorks$Sense" "exits" "I") ∈ lw_all := lw_g (lw_at lw_m2 186 rfl) rfl
theorem q1751 : (Jvm.Cond.fieldLinkNest "ModulaWorks$Sense" (698 : Nat) "ModulaWorks$Item" "mode" "I" "ModulaWorks") ∈ lw_tbl := lw_at lw_m7 27 rfl
theorem q1754 : (Jvm.Cond.fieldLinkNest "ModulaWorks$Sense" (701 : Nat) "ModulaWorks$Item" "weight" "I" "ModulaWorks") ∈ lw_tbl := lw_at lw_m7 30 rfl
theorem q1756 : (Jvm.Cond.fieldLinkNest "ModulaWorks$Sense" (704 : Nat) "ModulaWorks$Item" "sym" "LModulaWorks$Sym;" "ModulaWorks") ∈ lw_tbl := lw_at lw_m7 32 rfl
theorem q1550 : (Jvm.Cond.fieldLinkNest "ModulaWorks$Sense" (726 : Nat) "ModulaWorks$Sym" "fix" "I" "ModulaWorks") ∈ lw_tbl := lw_at lw_m6 66 rfl
theorem q1400 : (Jvm.Cond.fieldLinkNest "ModulaWorks$Sense" (908 : Nat) "ModulaWorks$Scope" "isWith" "Z" "ModulaWorks") ∈ lw_tbl := lw_at lw_m5 156 rfl
theorem q614 : (Jvm.Cond.fieldLink "ModulaWorks$Pool" (9 : Nat) "ModulaWorks$Pool" "types" "[LModulaWorks$Type;") ∈ lw_all := lw_g (lw_at lw_m2 90 rfl) rfl
theorem q615 : (Jvm.Cond.fieldLink "ModulaWorks$Pool" (17 : Nat) "ModulaWorks$Pool" "syms" "[LModulaWorks$Sym;") ∈ lw_all := lw_g (lw_at lw_m2 91 rfl) rfl
theorem q616 : (Jvm.Cond.fieldLink "ModulaWorks$Pool" (23 : Nat) "ModulaWorks$Pool" "scopes" "[LModulaWorks$Scope;") ∈ lw_all := lw_g (lw_at lw_m2 92 rfl) rfl
theorem q617 : (Jvm.Cond.fieldLink "ModulaWorks$Pool" (27 : Nat) "ModulaWorks$Pool" "type" "I") ∈ lw_all := lw_g (lw_at lw_m2 93 rfl) rfl
theorem q618 : (Jvm.Cond.fieldLink "ModulaWorks$Pool" (31 : Nat) "ModulaWorks$Pool" "sym" "I") ∈ lw_all := lw_g (lw_at lw_m2 94 rfl) rfl
theorem q619 : (Jvm.Cond.fieldLink "ModulaWorks$Pool" (34 : Nat) "ModulaWorks$Pool" "scope" "I") ∈ lw_all := lw_g (lw_at lw_m2 95 rfl) rfl
theorem q640 : (Jvm.Cond.fieldLink "ModulaWorks$Maker" (8 : Nat) "ModulaWorks$Maker" "bytes" "[B") ∈ lw_all := lw_g (lw_at lw_m2 116 rfl) rfl
theorem q642 : (Jvm.Cond.fieldLink "ModulaWorks$Maker" (14 : Nat) "ModulaWorks$Maker" "here" "I") ∈ lw_all := lw_g (lw_at lw_m2 118 rfl) rfl
theorem q1067 : (Jvm.Cond.fieldLink "ModulaWorks$Kernel" (61 : Nat) "ModulaWorks$Kernel" "routines" "[Ljava/lang/String;") ∈ lw_all := lw_g (lw_at lw_m4 63 rfl) rfl
theorem q1068 : (Jvm.Cond.fieldLink "ModulaWorks$Kernel" (119 : Nat) "ModulaWorks$Kernel" "others" "[Ljava/lang/String;") ∈ lw_all := lw_g (lw_at lw_m4 64 rfl) rfl
theorem q1069 : (Jvm.Cond.fieldLink "ModulaWorks$Kernel" (142 : Nat) "ModulaWorks$Kernel" "parts" "[Ljava/lang/String;") ∈ lw_all := lw_g (lw_at lw_m4 65 rfl) rfl
theorem q1070 : (Jvm.Cond.fieldLink "ModulaWorks$Kernel" (145 : Nat) "ModulaWorks$Kernel" "bytes" "[B") ∈ lw_all := lw_g (lw_at lw_m4 66 rfl) rfl
theorem q1072 : (Jvm.Cond.fieldLink "ModulaWorks$Kernel" (149 : Nat) "ModulaWorks$Kernel" "names" "[Ljava/lang/String;") ∈ lw_all := lw_g (lw_at lw_m4 68 rfl) rfl
theorem q1073 : (Jvm.Cond.fieldLink "ModulaWorks$Kernel" (152 : Nat) "ModulaWorks$Kernel" "places" "[I") ∈ lw_all := lw_g (lw_at lw_m4 69 rfl) rfl
theorem q1075 : (Jvm.Cond.fieldLink "ModulaWorks$Kernel" (156 : Nat) "ModulaWorks$Kernel" "here" "I") ∈ lw_all := lw_g (lw_at lw_m4 71 rfl) rfl
theorem q1076 : (Jvm.Cond.fieldLink "ModulaWorks$Kernel" (160 : Nat) "ModulaWorks$Kernel" "isFirst" "Z") ∈ lw_all := lw_g (lw_at lw_m4 72 rfl) rfl
theorem q1074 : (Jvm.Cond.fieldLink "ModulaWorks$Kernel" (174 : Nat) "ModulaWorks$Kernel" "known" "I") ∈ lw_all := lw_g (lw_at lw_m4 70 rfl) rfl
theorem q1149 : (Jvm.Cond.fieldLink "ModulaWorks$Program" (14 : Nat) "ModulaWorks$Program" "chip" "LModulaWorks$Chip;") ∈ lw_all := lw_g (lw_at lw_m4 145 rfl) rfl
theorem q1150 : (Jvm.Cond.fieldLink "ModulaWorks$Program" (21 : Nat) "ModulaWorks$Program" "image" "[B") ∈ lw_all := lw_g (lw_at lw_m4 146 rfl) rfl
theorem q1156 : (Jvm.Cond.fieldLink "ModulaWorks$Program" (25 : Nat) "ModulaWorks$Program" "moduleFrom" "[I") ∈ lw_all := lw_g (lw_at lw_m4 152 rfl) rfl
theorem q1158 : (Jvm.Cond.fieldLink "ModulaWorks$Program" (29 : Nat) "ModulaWorks$Program" "moduleUnit" "[I") ∈ lw_all := lw_g (lw_at lw_m4 154 rfl) rfl
theorem q1161 : (Jvm.Cond.fieldLink "ModulaWorks$Program" (32 : Nat) "ModulaWorks$Program" "begins" "[I") ∈ lw_all := lw_g (lw_at lw_m4 157 rfl) rfl
theorem q1171 : (Jvm.Cond.fieldLink "ModulaWorks$Program" (35 : Nat) "ModulaWorks$Program" "output" "[B") ∈ lw_all := lw_g (lw_at lw_m4 167 rfl) rfl
theorem q1173 : (Jvm.Cond.fieldLink "ModulaWorks$Program" (38 : Nat) "ModulaWorks$Program" "input" "[B") ∈ lw_all := lw_g (lw_at lw_m4 169 rfl) rfl
theorem q1110 : (Jvm.Cond.fieldLinkNest "ModulaWorks$Program" (41 : Nat) "ModulaWorks$Chip" "memory" "[B" "ModulaWorks") ∈ lw_tbl := lw_at lw_m4 106 rfl
theorem q1116 : (Jvm.Cond.fieldLinkNest "ModulaWorks$Program" (51 : Nat) "ModulaWorks$Chip" "sp" "I" "ModulaWorks") ∈ lw_tbl := lw_at lw_m4 112 rfl
theorem q1113 : (Jvm.Cond.fieldLinkNest "ModulaWorks$Program" (55 : Nat) "ModulaWorks$Chip" "ix" "I" "ModulaWorks") ∈ lw_tbl := lw_at lw_m4 109 rfl
theorem q1152 : (Jvm.Cond.fieldLink "ModulaWorks$Program" (58 : Nat) "ModulaWorks$Program" "begin" "I") ∈ lw_all := lw_g (lw_at lw_m4 148 rfl) rfl
theorem q1118 : (Jvm.Cond.fieldLinkNest "ModulaWorks$Program" (61 : Nat) "ModulaWorks$Chip" "pc" "I" "ModulaWorks") ∈ lw_tbl := lw_at lw_m4 114 rfl
theorem q1154 : (Jvm.Cond.fieldLink "ModulaWorks$Program" (69 : Nat) "ModulaWorks$Program" "modules" "I") ∈ lw_all := lw_g (lw_at lw_m4 150 rfl) rfl
theorem q1162 : (Jvm.Cond.fieldLink "ModulaWorks$Program" (72 : Nat) "ModulaWorks$Program" "beginsMany" "I") ∈ lw_all := lw_g (lw_at lw_m4 158 rfl) rfl
theorem q1163 : (Jvm.Cond.fieldLink "ModulaWorks$Program" (75 : Nat) "ModulaWorks$Program" "state" "I") ∈ lw_all := lw_g (lw_at lw_m4 159 rfl) rfl
theorem q1165 : (Jvm.Cond.fieldLink "ModulaWorks$Program" (78 : Nat) "ModulaWorks$Program" "trap" "I") ∈ lw_all := lw_g (lw_at lw_m4 161 rfl) rfl
theorem q1166 : (Jvm.Cond.fieldLink "ModulaWorks$Program" (81 : Nat) "ModulaWorks$Program" "steps" "I") ∈ lw_all := lw_g (lw_at lw_m4 162 rfl) rfl
theorem q1168 : (Jvm.Cond.fieldLink "ModulaWorks$Program" (84 : Nat) "ModulaWorks$Program" "module" "I") ∈ lw_all := lw_g (lw_at lw_m4 164 rfl) rfl
theorem q1169 : (Jvm.Cond.fieldLink "ModulaWorks$Program" (87 : Nat) "ModulaWorks$Program" "place" "I") ∈ lw_all := lw_g (lw_at lw_m4 165 rfl) rfl
theorem q1170 : (Jvm.Cond.fieldLink "ModulaWorks$Program" (90 : Nat) "ModulaWorks$Program" "processes" "I") ∈ lw_all := lw_g (lw_at lw_m4 166 rfl) rfl
theorem q1174 : (Jvm.Cond.fieldLink "ModulaWorks$Program" (93 : Nat) "ModulaWorks$Program" "outputSize" "I") ∈ lw_all := lw_g (lw_at lw_m4 170 rfl) rfl
theorem q1176 : (Jvm.Cond.fieldLink "ModulaWorks$Program" (96 : Nat) "ModulaWorks$Program" "inputFrom" "I") ∈ lw_all := lw_g (lw_at lw_m4 172 rfl) rfl
theorem q1177 : (Jvm.Cond.fieldLink "ModulaWorks$Program" (99 : Nat) "ModulaWorks$Program" "inputSize" "I") ∈ lw_all := lw_g (lw_at lw_m4 173 rfl) rfl
theorem q1167 : (Jvm.Cond.fieldLink "ModulaWorks$Program" (102 : Nat) "ModulaWorks$Program" "limit" "I") ∈ lw_all := lw_g (lw_at lw_m4 163 rfl) rfl
theorem q1120 : (Jvm.Cond.fieldLinkNest "ModulaWorks$Program" (105 : Nat) "ModulaWorks$Chip" "stopped" "Z" "ModulaWorks") ∈ lw_tbl := lw_at lw_m4 116 rfl
theorem q1109 : (Jvm.Cond.fieldLink "ModulaWorks$Chip" (8 : Nat) "ModulaWorks$Chip" "memory" "[B") ∈ lw_all := lw_g (lw_at lw_m4 105 rfl) rfl
theorem q1111 : (Jvm.Cond.fieldLink "ModulaWorks$Chip" (14 : Nat) "ModulaWorks$Chip" "r" "[I") ∈ lw_all := lw_g (lw_at lw_m4 107 rfl) rfl
theorem q1112 : (Jvm.Cond.fieldLink "ModulaWorks$Chip" (18 : Nat) "ModulaWorks$Chip" "other" "[I") ∈ lw_all := lw_g (lw_at lw_m4 108 rfl) rfl
theorem q1122 : (Jvm.Cond.fieldLink "ModulaWorks$Chip" (21 : Nat) "ModulaWorks$Chip" "ports" "LModulaWorks$Ports;") ∈ lw_all := lw_g (lw_at lw_m4 118 rfl) rfl
theorem q1119 : (Jvm.Cond.fieldLink "ModulaWorks$Chip" (34 : Nat) "ModulaWorks$Chip" "pc" "I") ∈ lw_all := lw_g (lw_at lw_m4 115 rfl) rfl
theorem q1123 : (Jvm.Cond.fieldLink "ModulaWorks$Chip" (42 : Nat) "ModulaWorks$Chip" "pair" "I") ∈ lw_all := lw_g (lw_at lw_m4 119 rfl) rfl
theorem q1114 : (Jvm.Cond.fieldLink "ModulaWorks$Chip" (48 : Nat) "ModulaWorks$Chip" "ix" "I") ∈ lw_all := lw_g (lw_at lw_m4 110 rfl) rfl
theorem q1115 : (Jvm.Cond.fieldLink "ModulaWorks$Chip" (51 : Nat) "ModulaWorks$Chip" "iy" "I") ∈ lw_all := lw_g (lw_at lw_m4 111 rfl) rfl
theorem q1117 : (Jvm.Cond.fieldLink "ModulaWorks$Chip" (57 : Nat) "ModulaWorks$Chip" "sp" "I") ∈ lw_all := lw_g (lw_at lw_m4 113 rfl) rfl
theorem q1124 : (Jvm.Cond.fieldLink "ModulaWorks$Chip" (70 : Nat) "ModulaWorks$Chip" "place" "I") ∈ lw_all := lw_g (lw_at lw_m4 120 rfl) rfl
theorem q1121 : (Jvm.Cond.fieldLink "ModulaWorks$Chip" (98 : Nat) "ModulaWorks$Chip" "stopped" "Z") ∈ lw_all := lw_g (lw_at lw_m4 117 rfl) rfl
theorem q1393 : (Jvm.Cond.fieldLink "ModulaWorks$Scope" (7 : Nat) "ModulaWorks$Scope" "first" "LModulaWorks$Sym;") ∈ lw_all := lw_g (lw_at lw_m5 149 rfl) rfl
theorem q1395 : (Jvm.Cond.fieldLink "ModulaWorks$Scope" (13 : Nat) "ModulaWorks$Scope" "last" "LModulaWorks$Sym;") ∈ lw_all := lw_g (lw_at lw_m5 151 rfl) rfl
theorem q1397 : (Jvm.Cond.fieldLink "ModulaWorks$Scope" (16 : Nat) "ModulaWorks$Scope" "outer" "LModulaWorks$Scope;") ∈ lw_all := lw_g (lw_at lw_m5 153 rfl) rfl
theorem q1399 : (Jvm.Cond.fieldLink "ModulaWorks$Scope" (20 : Nat) "ModulaWorks$Scope" "isWith" "Z") ∈ lw_all := lw_g (lw_at lw_m5 155 rfl) rfl
theorem q1401 : (Jvm.Cond.fieldLink "ModulaWorks$Scope" (24 : Nat) "ModulaWorks$Scope" "slot" "I") ∈ lw_all := lw_g (lw_at lw_m5 157 rfl) rfl
theorem q1403 : (Jvm.Cond.fieldLink "ModulaWorks$Scope" (28 : Nat) "ModulaWorks$Scope" "unit" "LModulaWorks$Unit;") ∈ lw_all := lw_g (lw_at lw_m5 159 rfl) rfl
theorem q1533 : (Jvm.Cond.fieldLinkNest "ModulaWorks$Scope" (38 : Nat) "ModulaWorks$Sym" "next" "LModulaWorks$Sym;" "ModulaWorks") ∈ lw_tbl := lw_at lw_m6 49 rfl
theorem q1434 : (Jvm.Cond.fieldLink "ModulaWorks$Type" (9 : Nat) "ModulaWorks$Type" "form" "I") ∈ lw_all := lw_g (lw_at lw_m5 190 rfl) rfl
theorem q1436 : (Jvm.Cond.fieldLink "ModulaWorks$Type" (15 : Nat) "ModulaWorks$Type" "size" "I") ∈ lw_all := lw_g (lw_at lw_m5 192 rfl) rfl
theorem q1438 : (Jvm.Cond.fieldLink "ModulaWorks$Type" (18 : Nat) "ModulaWorks$Type" "low" "I") ∈ lw_all := lw_g (lw_at lw_m5 194 rfl) rfl
theorem q1440 : (Jvm.Cond.fieldLink "ModulaWorks$Type" (22 : Nat) "ModulaWorks$Type" "high" "I") ∈ lw_all := lw_g (lw_at lw_m5 196 rfl) rfl
theorem q1442 : (Jvm.Cond.fieldLink "ModulaWorks$Type" (25 : Nat) "ModulaWorks$Type" "host" "LModulaWorks$Type;") ∈ lw_all := lw_g (lw_at lw_m5 198 rfl) rfl
theorem q1444 : (Jvm.Cond.fieldLink "ModulaWorks$Type" (29 : Nat) "ModulaWorks$Type" "element" "LModulaWorks$Type;") ∈ lw_all := lw_g (lw_at lw_m5 200 rfl) rfl
theorem q1446 : (Jvm.Cond.fieldLink "ModulaWorks$Type" (32 : Nat) "ModulaWorks$Type" "index" "LModulaWorks$Type;") ∈ lw_all := lw_g (lw_at lw_m5 202 rfl) rfl
theorem q1448 : (Jvm.Cond.fieldLink "ModulaWorks$Type" (35 : Nat) "ModulaWorks$Type" "result" "LModulaWorks$Type;") ∈ lw_all := lw_g (lw_at lw_m5 204 rfl) rfl
theorem q1450 : (Jvm.Cond.fieldLink "ModulaWorks$Type" (38 : Nat) "ModulaWorks$Type" "target" "LModulaWorks$Type;") ∈ lw_all := lw_g (lw_at lw_m5 206 rfl) rfl
theorem q1452 : (Jvm.Cond.fieldLink "ModulaWorks$Type" (41 : Nat) "ModulaWorks$Type" "open" "LModulaWorks$Type;") ∈ lw_all := lw_g (lw_at lw_m5 208 rfl) rfl
theorem q1454 : (Jvm.Cond.fieldLink "ModulaWorks$Type" (44 : Nat) "ModulaWorks$Type" "members" "LModulaWorks$Sym;") ∈ lw_all := lw_g (lw_at lw_m5 210 rfl) rfl
theorem q1456 : (Jvm.Cond.fieldLink "ModulaWorks$Type" (48 : Nat) "ModulaWorks$Type" "count" "I") ∈ lw_all := lw_g (lw_at lw_m5 212 rfl) rfl
theorem q1514 : (Jvm.Cond.fieldLink "ModulaWorks$Sym" (7 : Nat) "ModulaWorks$Sym" "first" "J") ∈ lw_all := lw_g (lw_at lw_m6 30 rfl) rfl
theorem q1516 : (Jvm.Cond.fieldLink "ModulaWorks$Sym" (13 : Nat) "ModulaWorks$Sym" "second" "J") ∈ lw_all := lw_g (lw_at lw_m6 32 rfl) rfl
theorem q1518 : (Jvm.Cond.fieldLink "ModulaWorks$Sym" (16 : Nat) "ModulaWorks$Sym" "kind" "I") ∈ lw_all := lw_g (lw_at lw_m6 34 rfl) rfl
theorem q1528 : (Jvm.Cond.fieldLink "ModulaWorks$Sym" (20 : Nat) "ModulaWorks$Sym" "type" "LModulaWorks$Type;") ∈ lw_all := lw_g (lw_at lw_m6 44 rfl) rfl
theorem q1520 : (Jvm.Cond.fieldLink "ModulaWorks$Sym" (24 : Nat) "ModulaWorks$Sym" "value" "I") ∈ lw_all := lw_g (lw_at lw_m6 36 rfl) rfl
theorem q1522 : (Jvm.Cond.fieldLink "ModulaWorks$Sym" (27 : Nat) "ModulaWorks$Sym" "length" "I") ∈ lw_all := lw_g (lw_at lw_m6 38 rfl) rfl
theorem q1524 : (Jvm.Cond.fieldLink "ModulaWorks$Sym" (30 : Nat) "ModulaWorks$Sym" "level" "I") ∈ lw_all := lw_g (lw_at lw_m6 40 rfl) rfl
theorem q1526 : (Jvm.Cond.fieldLink "ModulaWorks$Sym" (33 : Nat) "ModulaWorks$Sym" "place" "I") ∈ lw_all := lw_g (lw_at lw_m6 42 rfl) rfl
theorem q1530 : (Jvm.Cond.fieldLink "ModulaWorks$Sym" (36 : Nat) "ModulaWorks$Sym" "text" "LModulaWorks$Text;") ∈ lw_all := lw_g (lw_at lw_m6 46 rfl) rfl
theorem q1532 : (Jvm.Cond.fieldLink "ModulaWorks$Sym" (40 : Nat) "ModulaWorks$Sym" "next" "LModulaWorks$Sym;") ∈ lw_all := lw_g (lw_at lw_m6 48 rfl) rfl
theorem q1535 : (Jvm.Cond.fieldLink "ModulaWorks$Sym" (44 : Nat) "ModulaWorks$Sym" "real" "LModulaWorks$Sym;") ∈ lw_all := lw_g (lw_at lw_m6 51 rfl) rfl
theorem q1537 : (Jvm.Cond.fieldLink "ModulaWorks$Sym" (47 : Nat) "ModulaWorks$Sym" "isVar" "Z") ∈ lw_all := lw_g (lw_at lw_m6 53 rfl) rfl
theorem q1539 : (Jvm.Cond.fieldLink "ModulaWorks$Sym" (51 : Nat) "ModulaWorks$Sym" "isOpen" "Z") ∈ lw_all := lw_g (lw_at lw_m6 55 rfl) rfl
theorem q1541 : (Jvm.Cond.fieldLink "ModulaWorks$Sym" (54 : Nat) "ModulaWorks$Sym" "isParameter" "Z") ∈ lw_all := lw_g (lw_at lw_m6 57 rfl) rfl
theorem q1543 : (Jvm.Cond.fieldLink "ModulaWorks$Sym" (57 : Nat) "ModulaWorks$Sym" "members" "LModulaWorks$Sym;") ∈ lw_all := lw_g (lw_at lw_m6 59 rfl) rfl
theorem q1545 : (Jvm.Cond.fieldLink "ModulaWorks$Sym" (60 : Nat) "ModulaWorks$Sym" "count" "I") ∈ lw_all := lw_g (lw_at lw_m6 61 rfl) rfl
theorem q1547 : (Jvm.Cond.fieldLink "ModulaWorks$Sym" (63 : Nat) "ModulaWorks$Sym" "bytes" "I") ∈ lw_all := lw_g (lw_at lw_m6 63 rfl) rfl
theorem q1549 : (Jvm.Cond.fieldLink "ModulaWorks$Sym" (66 : Nat) "ModulaWorks$Sym" "fix" "I") ∈ lw_all := lw_g (lw_at lw_m6 65 rfl) rfl
theorem q1551 : (Jvm.Cond.fieldLink "ModulaWorks$Sym" (69 : Nat) "ModulaWorks$Sym" "result" "LModulaWorks$Type;") ∈ lw_all := lw_g (lw_at lw_m6 67 rfl) rfl
theorem q1553 : (Jvm.Cond.fieldLink "ModulaWorks$Sym" (72 : Nat) "ModulaWorks$Sym" "isThere" "Z") ∈ lw_all := lw_g (lw_at lw_m6 69 rfl) rfl
theorem q1555 : (Jvm.Cond.fieldLink "ModulaWorks$Sym" (75 : Nat) "ModulaWorks$Sym" "isForward" "Z") ∈ lw_all := lw_g (lw_at lw_m6 71 rfl) rfl
theorem q1557 : (Jvm.Cond.fieldLink "ModulaWorks$Sym" (78 : Nat) "ModulaWorks$Sym" "isOfDefinition" "Z") ∈ lw_all := lw_g (lw_at lw_m6 73 rfl) rfl
theorem q1559 : (Jvm.Cond.fieldLink "ModulaWorks$Sym" (81 : Nat) "ModulaWorks$Sym" "isImported" "Z") ∈ lw_all := lw_g (lw_at lw_m6 75 rfl) rfl
theorem q1561 : (Jvm.Cond.fieldLink "ModulaWorks$Sym" (84 : Nat) "ModulaWorks$Sym" "scope" "LModulaWorks$Scope;") ∈ lw_all := lw_g (lw_at lw_m6 77 rfl) rfl
theorem q998 : (Jvm.Cond.fieldLink "java/lang/String" (9 : Nat) "java/lang/String" "value" "[B") ∈ lw_all := lw_g (lw_at lw_m3 234 rfl) rfl
theorem q999 : (Jvm.Cond.fieldLink "java/lang/String" (15 : Nat) "java/lang/String" "coder" "B") ∈ lw_all := lw_g (lw_at lw_m3 235 rfl) rfl
theorem q569 : (Jvm.Cond.fieldLink "java/lang/Throwable" (7 : Nat) "java/lang/Throwable" "cause" "Ljava/lang/Throwable;") ∈ lw_all := lw_g (lw_at lw_m2 45 rfl) rfl
theorem q570 : (Jvm.Cond.fieldLink "java/lang/Throwable" (17 : Nat) "java/lang/Throwable" "stackTrace" "[Ljava/lang/StackTraceElement;") ∈ lw_all := lw_g (lw_at lw_m2 46 rfl) rfl
theorem q571 : (Jvm.Cond.fieldLink "java/lang/Throwable" (24 : Nat) "java/lang/Throwable" "suppressedExceptions" "Ljava/util/List;") ∈ lw_all := lw_g (lw_at lw_m2 47 rfl) rfl
theorem q568 : (Jvm.Cond.fieldLink "java/lang/Throwable" (31 : Nat) "java/lang/Throwable" "detailMessage" "Ljava/lang/String;") ∈ lw_all := lw_g (lw_at lw_m2 44 rfl) rfl
theorem q314 : (Jvm.Cond.classLink "ModulaWorksLaw" (10 : Nat) "ModulaWorks") ∈ lw_all := lw_g (lw_at lw_m1 30 rfl) rfl
theorem q315 : (Jvm.Cond.instantiable "ModulaWorks" (23 : Nat)) ∈ lw_all := lw_g (lw_at lw_m1 31 rfl) rfl
theorem q285 : (Jvm.Cond.initialized "ModulaWorks") ∈ lw_all := lw_g (lw_at lw_m1 1 rfl) rfl
theorem q322 : (Jvm.Cond.classLink "ModulaWorks" (36 : Nat) "ModulaWorks$Words") ∈ lw_all := lw_g (lw_at lw_m1 38 rfl) rfl
theorem q323 : (Jvm.Cond.instantiable "ModulaWorks$Words" (1 : Nat)) ∈ lw_all := lw_g (lw_at lw_m1 39 rfl) rfl
theorem q286 : (Jvm.Cond.initialized "ModulaWorks$Words") ∈ lw_all := lw_g (lw_at lw_m1 2 rfl) rfl
theorem q376 : (Jvm.Cond.classLink "ModulaWorks" (43 : Nat) "ModulaWorks$Shelf") ∈ lw_all := lw_g (lw_at lw_m1 92 rfl) rfl
theorem q377 : (Jvm.Cond.instantiable "ModulaWorks$Shelf" (2 : Nat)) ∈ lw_all := lw_g (lw_at lw_m1 93 rfl) rfl
theorem q287 : (Jvm.Cond.initialized "ModulaWorks$Shelf") ∈ lw_all := lw_g (lw_at lw_m1 3 rfl) rfl
theorem q510 : (Jvm.Cond.classLink "ModulaWorks" (52 : Nat) "ModulaWorks$Form") ∈ lw_all := lw_g (lw_at lw_m1 226 rfl) rfl
theorem q511 : (Jvm.Cond.instantiable "ModulaWorks$Form" (4 : Nat)) ∈ lw_all := lw_g (lw_at lw_m1 227 rfl) rfl
theorem q290 : (Jvm.Cond.initialized "ModulaWorks$Form") ∈ lw_all := lw_g (lw_at lw_m1 6 rfl) rfl
theorem q594 : (Jvm.Cond.classLink "ModulaWorks" (59 : Nat) "ModulaWorks$Sense") ∈ lw_all := lw_g (lw_at lw_m2 70 rfl) rfl
theorem q595 : (Jvm.Cond.instantiable "ModulaWorks$Sense" (50 : Nat)) ∈ lw_all := lw_g (lw_at lw_m2 71 rfl) rfl
theorem q295 : (Jvm.Cond.initialized "ModulaWorks$Sense") ∈ lw_all := lw_g (lw_at lw_m1 11 rfl) rfl
theorem q831 : (Jvm.Cond.classLink "ModulaWorks" (68 : Nat) "ModulaWorks$Kernel") ∈ lw_all := lw_g (lw_at lw_m3 67 rfl) rfl
theorem q832 : (Jvm.Cond.instantiable "ModulaWorks$Kernel" (9 : Nat)) ∈ lw_all := lw_g (lw_at lw_m3 68 rfl) rfl
theorem q298 : (Jvm.Cond.initialized "ModulaWorks$Kernel") ∈ lw_all := lw_g (lw_at lw_m1 14 rfl) rfl
theorem q1096 : (Jvm.Cond.classLink "ModulaWorks" (75 : Nat) "ModulaWorks$Program") ∈ lw_all := lw_g (lw_at lw_m4 92 rfl) rfl
theorem q1097 : (Jvm.Cond.instantiable "ModulaWorks$Program" (21 : Nat)) ∈ lw_all := lw_g (lw_at lw_m4 93 rfl) rfl
theorem q306 : (Jvm.Cond.initialized "ModulaWorks$Program") ∈ lw_all := lw_g (lw_at lw_m1 22 rfl) rfl
theorem q1221 : (Jvm.Cond.classLink "ModulaWorks" (82 : Nat) "ModulaWorks$Unit") ∈ lw_all := lw_g (lw_at lw_m4 217 rfl) rfl
theorem q384 : (Jvm.Cond.instantiable "ModulaWorks$Unit" (14 : Nat)) ∈ lw_all := lw_g (lw_at lw_m1 100 rfl) rfl
theorem q288 : (Jvm.Cond.initialized "ModulaWorks$Unit") ∈ lw_all := lw_g (lw_at lw_m1 4 rfl) rfl
theorem q1223 : (Jvm.Cond.classLink "ModulaWorks" (104 : Nat) "ModulaWorks$Plugs") ∈ lw_all := lw_g (lw_at lw_m4 219 rfl) rfl
theorem q1224 : (Jvm.Cond.instantiable "ModulaWorks$Plugs" (3 : Nat)) ∈ lw_all := lw_g (lw_at lw_m4 220 rfl) rfl
theorem q308 : (Jvm.Cond.initialized "ModulaWorks$Plugs") ∈ lw_all := lw_g (lw_at lw_m1 24 rfl) rfl
theorem q1239 : (Jvm.Cond.classLink "ModulaWorks" (111 : Nat) "ModulaWorks$Chip") ∈ lw_all := lw_g (lw_at lw_m4 235 rfl) rfl
theorem q1103 : (Jvm.Cond.instantiable "ModulaWorks$Chip" (11 : Nat)) ∈ lw_all := lw_g (lw_at lw_m4 99 rfl) rfl
theorem q307 : (Jvm.Cond.initialized "ModulaWorks$Chip") ∈ lw_all := lw_g (lw_at lw_m1 23 rfl) rfl
theorem q382 : (Jvm.Cond.classLink "ModulaWorks$Shelf" (9 : Nat) "ModulaWorks$Unit") ∈ lw_all := lw_g (lw_at lw_m1 98 rfl) rfl
theorem q389 : (Jvm.Cond.classLink "ModulaWorks$Unit" (22 : Nat) "ModulaWorks$Text") ∈ lw_all := lw_g (lw_at lw_m1 105 rfl) rfl
theorem q390 : (Jvm.Cond.instantiable "ModulaWorks$Text" (8 : Nat)) ∈ lw_all := lw_g (lw_at lw_m1 106 rfl) rfl
theorem q289 : (Jvm.Cond.initialized "ModulaWorks$Text") ∈ lw_all := lw_g (lw_at lw_m1 5 rfl) rfl
theorem q516 : (Jvm.Cond.classLink "ModulaWorks$Form" (9 : Nat) "ModulaWorks$Wrong") ∈ lw_all := lw_g (lw_at lw_m1 232 rfl) rfl
theorem q517 : (Jvm.Cond.instantiable "ModulaWorks$Wrong" (6 : Nat)) ∈ lw_all := lw_g (lw_at lw_m1 233 rfl) rfl
theorem q294 : (Jvm.Cond.initialized "ModulaWorks$Wrong") ∈ lw_all := lw_g (lw_at lw_m1 10 rfl) rfl
theorem q600 : (Jvm.Cond.classLink "ModulaWorks$Sense" (9 : Nat) "ModulaWorks$Wrong") ∈ lw_all := lw_g (lw_at lw_m2 76 rfl) rfl
theorem q602 : (Jvm.Cond.classLink "ModulaWorks$Sense" (18 : Nat) "ModulaWorks$Pool") ∈ lw_all := lw_g (lw_at lw_m2 78 rfl) rfl
theorem q603 : (Jvm.Cond.instantiable "ModulaWorks$Pool" (6 : Nat)) ∈ lw_all := lw_g (lw_at lw_m2 79 rfl) rfl
theorem q296 : (Jvm.Cond.initialized "ModulaWorks$Pool") ∈ lw_all := lw_g (lw_at lw_m1 12 rfl) rfl
theorem q633 : (Jvm.Cond.classLink "ModulaWorks$Sense" (25 : Nat) "ModulaWorks$Maker") ∈ lw_all := lw_g (lw_at lw_m2 109 rfl) rfl
theorem q634 : (Jvm.Cond.instantiable "ModulaWorks$Maker" (2 : Nat)) ∈ lw_all := lw_g (lw_at lw_m2 110 rfl) rfl
theorem q297 : (Jvm.Cond.initialized "ModulaWorks$Maker") ∈ lw_all := lw_g (lw_at lw_m1 13 rfl) rfl
theorem q674 : (Jvm.Cond.classLink "ModulaWorks$Sense" (110 : Nat) "ModulaWorks$Item") ∈ lw_all := lw_g (lw_at lw_m2 150 rfl) rfl
theorem q1746 : (Jvm.Cond.instantiable "ModulaWorks$Item" (7 : Nat)) ∈ lw_all := lw_g (lw_at lw_m7 22 rfl) rfl
theorem q312 : (Jvm.Cond.initialized "ModulaWorks$Item") ∈ lw_all := lw_g (lw_at lw_m1 28 rfl) rfl
theorem q608 : (Jvm.Cond.classLink "ModulaWorks$Pool" (7 : Nat) "ModulaWorks$Type") ∈ lw_all := lw_g (lw_at lw_m2 84 rfl) rfl
theorem q1429 : (Jvm.Cond.instantiable "ModulaWorks$Type" (12 : Nat)) ∈ lw_all := lw_g (lw_at lw_m5 185 rfl) rfl
theorem q310 : (Jvm.Cond.initialized "ModulaWorks$Type") ∈ lw_all := lw_g (lw_at lw_m1 26 rfl) rfl
theorem q610 : (Jvm.Cond.classLink "ModulaWorks$Pool" (15 : Nat) "ModulaWorks$Sym") ∈ lw_all := lw_g (lw_at lw_m2 86 rfl) rfl
theorem q1509 : (Jvm.Cond.instantiable "ModulaWorks$Sym" (24 : Nat)) ∈ lw_all := lw_g (lw_at lw_m6 25 rfl) rfl
theorem q311 : (Jvm.Cond.initialized "ModulaWorks$Sym") ∈ lw_all := lw_g (lw_at lw_m1 27 rfl) rfl
theorem q612 : (Jvm.Cond.classLink "ModulaWorks$Pool" (21 : Nat) "ModulaWorks$Scope") ∈ lw_all := lw_g (lw_at lw_m2 88 rfl) rfl
theorem q1388 : (Jvm.Cond.instantiable "ModulaWorks$Scope" (6 : Nat)) ∈ lw_all := lw_g (lw_at lw_m5 144 rfl) rfl
theorem q309 : (Jvm.Cond.initialized "ModulaWorks$Scope") ∈ lw_all := lw_g (lw_at lw_m1 25 rfl) rfl
theorem q1102 : (Jvm.Cond.classLink "ModulaWorks$Program" (9 : Nat) "ModulaWorks$Chip") ∈ lw_all := lw_g (lw_at lw_m4 98 rfl) rfl
theorem q970 : (Jvm.Cond.classLink "java/lang/StringLatin1" (1 : Nat) "java/lang/String") ∈ lw_all := lw_g (lw_at lw_m3 206 rfl) rfl
theorem q971 : (Jvm.Cond.instantiable "java/lang/String" (4 : Nat)) ∈ lw_all := lw_g (lw_at lw_m3 207 rfl) rfl
theorem q299 : (Jvm.Cond.initialized "java/lang/String") ∈ lw_all := lw_g (lw_at lw_m1 15 rfl) rfl
theorem q383 : (Jvm.Cond.arrayOver (Jvm.ClassFile.FieldType.object "ModulaWorks$Unit")) ∈ lw_tbl := lw_at lw_m1 99 rfl
theorem q328 : (Jvm.Cond.classLink "ModulaWorks$Words" (7 : Nat) "java/lang/String") ∈ lw_all := lw_g (lw_at lw_m1 44 rfl) rfl
theorem q329 : (Jvm.Cond.arrayOver (Jvm.ClassFile.FieldType.object "java/lang/String")) ∈ lw_tbl := lw_at lw_m1 45 rfl
theorem q649 : (Jvm.Cond.classLink "ModulaWorks$Sense" (39 : Nat) "ModulaWorks$Type") ∈ lw_all := lw_g (lw_at lw_m2 125 rfl) rfl
theorem q609 : (Jvm.Cond.arrayOver (Jvm.ClassFile.FieldType.object "ModulaWorks$Type")) ∈ lw_tbl := lw_at lw_m2 85 rfl
theorem q650 : (Jvm.Cond.classLink "ModulaWorks$Sense" (52 : Nat) "java/lang/String") ∈ lw_all := lw_g (lw_at lw_m2 126 rfl) rfl
theorem q675 : (Jvm.Cond.arrayOver (Jvm.ClassFile.FieldType.object "ModulaWorks$Item")) ∈ lw_tbl := lw_at lw_m2 151 rfl
theorem q611 : (Jvm.Cond.arrayOver (Jvm.ClassFile.FieldType.object "ModulaWorks$Sym")) ∈ lw_tbl := lw_at lw_m2 87 rfl
theorem q613 : (Jvm.Cond.arrayOver (Jvm.ClassFile.FieldType.object "ModulaWorks$Scope")) ∈ lw_tbl := lw_at lw_m2 89 rfl
theorem q837 : (Jvm.Cond.classLink "ModulaWorks$Kernel" (9 : Nat) "java/lang/String") ∈ lw_all := lw_g (lw_at lw_m3 73 rfl) rfl
theorem q1056 : (Jvm.Cond.classLink "java/lang/String" (10 : Nat) "java/lang/String") ∈ lw_all := lw_g (lw_at lw_m4 52 rfl) rfl
theorem q2783 : (Jvm.Cond.constantLong "ModulaWorksLaw" (7 : Nat) (20 : Int64)) ∈ lw_all := lw_g (lw_at lw_m11 99 rfl) rfl
theorem q3073 : (Jvm.Cond.constantLong "ModulaWorksLaw" (19 : Nat) (255 : Int64)) ∈ lw_all := lw_g (lw_at lw_m12 149 rfl) rfl
theorem q3086 : (Jvm.Cond.constantLong "ModulaWorksLaw" (27 : Nat) (7303431220711391232 : Int64)) ∈ lw_all := lw_g (lw_at lw_m12 162 rfl) rfl
theorem q3090 : (Jvm.Cond.constantLong "ModulaWorksLaw" (36 : Nat) (2327603736437087546 : Int64)) ∈ lw_all := lw_g (lw_at lw_m12 166 rfl) rfl
theorem q3091 : (Jvm.Cond.constantLong "ModulaWorksLaw" (38 : Nat) (4395513236313604096 : Int64)) ∈ lw_all := lw_g (lw_at lw_m12 167 rfl) rfl
theorem q3092 : (Jvm.Cond.constantLong "ModulaWorksLaw" (40 : Nat) (4196510427779170304 : Int64)) ∈ lw_all := lw_g (lw_at lw_m12 168 rfl) rfl
theorem q3099 : (Jvm.Cond.constantLong "ModulaWorksLaw" (48 : Nat) (3098476543630901248 : Int64)) ∈ lw_all := lw_g (lw_at lw_m12 175 rfl) rfl
theorem q3100 : (Jvm.Cond.constantLong "ModulaWorksLaw" (50 : Nat) (3242591731706757120 : Int64)) ∈ lw_all := lw_g (lw_at lw_m12 176 rfl) rfl
theorem q3101 : (Jvm.Cond.constantLong "ModulaWorksLaw" (52 : Nat) (3026418949592973312 : Int64)) ∈ lw_all := lw_g (lw_at lw_m12 177 rfl) rfl
theorem q3102 : (Jvm.Cond.constantLong "ModulaWorksLaw" (54 : Nat) (2325063941882904576 : Int64)) ∈ lw_all := lw_g (lw_at lw_m12 178 rfl) rfl
theorem q3103 : (Jvm.Cond.constantLong "ModulaWorksLaw" (56 : Nat) (2327603736433655808 : Int64)) ∈ lw_all := lw_g (lw_at lw_m12 179 rfl) rfl
theorem q3126 : (Jvm.Cond.constantLong "ModulaWorksLaw" (58 : Nat) (4 : Int64)) ∈ lw_all := lw_g (lw_at lw_m12 202 rfl) rfl
theorem q3130 : (Jvm.Cond.constantLong "ModulaWorksLaw" (64 : Nat) (3 : Int64)) ∈ lw_all := lw_g (lw_at lw_m12 206 rfl) rfl
theorem q3131 : (Jvm.Cond.constantLong "ModulaWorksLaw" (66 : Nat) (-32768 : Int64)) ∈ lw_all := lw_g (lw_at lw_m12 207 rfl) rfl
theorem q3132 : (Jvm.Cond.constantLong "ModulaWorksLaw" (68 : Nat) (32767 : Int64)) ∈ lw_all := lw_g (lw_at lw_m12 208 rfl) rfl
theorem q3141 : (Jvm.Cond.constantLong "ModulaWorksLaw" (70 : Nat) (2000 : Int64)) ∈ lw_all := lw_g (lw_at lw_m12 217 rfl) rfl
theorem q3136 : (Jvm.Cond.constantLong "ModulaWorksLaw" (72 : Nat) (9 : Int64)) ∈ lw_all := lw_g (lw_at lw_m12 212 rfl) rfl
theorem q3137 : (Jvm.Cond.constantLong "ModulaWorksLaw" (74 : Nat) (10 : Int64)) ∈ lw_all := lw_g (lw_at lw_m12 213 rfl) rfl
theorem q3142 : (Jvm.Cond.constantLong "ModulaWorksLaw" (80 : Nat) (48 : Int64)) ∈ lw_all := lw_g (lw_at lw_m12 218 rfl) rfl
theorem q3104 : (Jvm.Cond.constantLong "ModulaWorksLaw" (88 : Nat) (5279942797510574080 : Int64)) ∈ lw_all := lw_g (lw_at lw_m12 180 rfl) rfl
theorem q3105 : (Jvm.Cond.constantLong "ModulaWorksLaw" (90 : Nat) (2329566369758052352 : Int64)) ∈ lw_all := lw_g (lw_at lw_m12 181 rfl) rfl
theorem q3106 : (Jvm.Cond.constantLong "ModulaWorksLaw" (92 : Nat) (2325350836571471872 : Int64)) ∈ lw_all := lw_g (lw_at lw_m12 182 rfl) rfl
theorem q3107 : (Jvm.Cond.constantLong "ModulaWorksLaw" (94 : Nat) (5066358403207528448 : Int64)) ∈ lw_all := lw_g (lw_at lw_m12 183 rfl) rfl
theorem q3108 : (Jvm.Cond.constantLong "ModulaWorksLaw" (96 : Nat) (2329573906114936832 : Int64)) ∈ lw_all := lw_g (lw_at lw_m12 184 rfl) rfl
theorem q3109 : (Jvm.Cond.constantLong "ModulaWorksLaw" (98 : Nat) (2324518352508175439 : Int64)) ∈ lw_all := lw_g (lw_at lw_m12 185 rfl) rfl
theorem q3110 : (Jvm.Cond.constantLong "ModulaWorksLaw" (100 : Nat) (2305843009213693952 : Int64)) ∈ lw_all := lw_g (lw_at lw_m12 186 rfl) rfl
theorem q3111 : (Jvm.Cond.constantLong "ModulaWorksLaw" (102 : Nat) (6301214777281179252 : Int64)) ∈ lw_all := lw_g (lw_at lw_m12 187 rfl) rfl
theorem q3112 : (Jvm.Cond.constantLong "ModulaWorksLaw" (104 : Nat) (2882303761517117440 : Int64)) ∈ lw_all := lw_g (lw_at lw_m12 188 rfl) rfl
theorem q3113 : (Jvm.Cond.constantLong "ModulaWorksLaw" (106 : Nat) (5928232742882123776 : Int64)) ∈ lw_all := lw_g (lw_at lw_m12 189 rfl) rfl
theorem q3114 : (Jvm.Cond.constantLong "ModulaWorksLaw" (108 : Nat) (2329854506148044800 : Int64)) ∈ lw_all := lw_g (lw_at lw_m12 190 rfl) rfl
theorem q3115 : (Jvm.Cond.constantLong "ModulaWorksLaw" (110 : Nat) (6289357471548964864 : Int64)) ∈ lw_all := lw_g (lw_at lw_m12 191 rfl) rfl
theorem q3116 : (Jvm.Cond.constantLong "ModulaWorksLaw" (112 : Nat) (2325070306487566336 : Int64)) ∈ lw_all := lw_g (lw_at lw_m12 192 rfl) rfl
theorem q3143 : (Jvm.Cond.constantLong "ModulaWorksLaw" (127 : Nat) (5570746397223100481 : Int64)) ∈ lw_all := lw_g (lw_at lw_m12 219 rfl) rfl
theorem q3144 : (Jvm.Cond.constantLong "ModulaWorksLaw" (129 : Nat) (4260482566824206409 : Int64)) ∈ lw_all := lw_g (lw_at lw_m12 220 rfl) rfl
theorem q3145 : (Jvm.Cond.constantLong "ModulaWorksLaw" (131 : Nat) (7948701008950545744 : Int64)) ∈ lw_all := lw_g (lw_at lw_m12 221 rfl) rfl
theorem q3146 : (Jvm.Cond.constantLong "ModulaWorksLaw" (133 : Nat) (5715723374969383284 : Int64)) ∈ lw_all := lw_g (lw_at lw_m12 222 rfl) rfl
theorem q3147 : (Jvm.Cond.constantLong "ModulaWorksLaw" (135 : Nat) (7298486116617836097 : Int64)) ∈ lw_all := lw_g (lw_at lw_m12 223 rfl) rfl
theorem q3148 : (Jvm.Cond.constantLong "ModulaWorksLaw" (137 : Nat) (5917836753618363180 : Int64)) ∈ lw_all := lw_g (lw_at lw_m12 224 rfl) rfl
theorem q3149 : (Jvm.Cond.constantLong "ModulaWorksLaw" (139 : Nat) (7222165553212114757 : Int64)) ∈ lw_all := lw_g (lw_at lw_m12 225 rfl) rfl
theorem q3150 : (Jvm.Cond.constantLong "ModulaWorksLaw" (141 : Nat) (5925365353877164626 : Int64)) ∈ lw_all := lw_g (lw_at lw_m12 226 rfl) rfl
theorem q3151 : (Jvm.Cond.constantLong "ModulaWorksLaw" (143 : Nat) (4708895147883901789 : Int64)) ∈ lw_all := lw_g (lw_at lw_m12 227 rfl) rfl
theorem q3152 : (Jvm.Cond.constantLong "ModulaWorksLaw" (145 : Nat) (5712288676584899911 : Int64)) ∈ lw_all := lw_g (lw_at lw_m12 228 rfl) rfl
theorem q3153 : (Jvm.Cond.constantLong "ModulaWorksLaw" (147 : Nat) (4995119946444130121 : Int64)) ∈ lw_all := lw_g (lw_at lw_m12 229 rfl) rfl
theorem q3154 : (Jvm.Cond.constantLong "ModulaWorksLaw" (149 : Nat) (5629499534213120000 : Int64)) ∈ lw_all := lw_g (lw_at lw_m12 230 rfl) rfl
theorem q3155 : (Jvm.Cond.constantLong "ModulaWorksLaw" (159 : Nat) (2325350837112614400 : Int64)) ∈ lw_all := lw_g (lw_at lw_m12 231 rfl) rfl
theorem q3156 : (Jvm.Cond.constantLong "ModulaWorksLaw" (185 : Nat) (1900 : Int64)) ∈ lw_all := lw_g (lw_at lw_m12 232 rfl) rfl
theorem q3067 : (Jvm.Cond.constant "ModulaWorks" (234 : Nat) (65521 : Int32)) ∈ lw_all := lw_g (lw_at lw_m12 143 rfl) rfl
theorem q3068 : (Jvm.Cond.constantLong "ModulaWorks" (235 : Nat) (31 : Int64)) ∈ lw_all := lw_g (lw_at lw_m12 144 rfl) rfl
theorem q3069 : (Jvm.Cond.constantLong "ModulaWorks" (237 : Nat) (65521 : Int64)) ∈ lw_all := lw_g (lw_at lw_m12 145 rfl) rfl
theorem q2487 : (Jvm.Cond.constant "ModulaWorks" (301 : Nat) (38912 : Int32)) ∈ lw_all := lw_g (lw_at lw_m10 43 rfl) rfl
theorem q2488 : (Jvm.Cond.constant "ModulaWorks" (302 : Nat) (40960 : Int32)) ∈ lw_all := lw_g (lw_at lw_m10 44 rfl) rfl
theorem q2489 : (Jvm.Cond.constant "ModulaWorks" (303 : Nat) (65536 : Int32)) ∈ lw_all := lw_g (lw_at lw_m10 45 rfl) rfl
theorem q330 : (Jvm.Cond.stringRef "ModulaWorks$Words" (9 : Nat) "AND") ∈ lw_tbl := lw_at lw_m1 46 rfl
theorem q331 : (Jvm.Cond.stringRef "ModulaWorks$Words" (11 : Nat) "ARRAY") ∈ lw_tbl := lw_at lw_m1 47 rfl
theorem q332 : (Jvm.Cond.stringRef "ModulaWorks$Words" (13 : Nat) "BEGIN") ∈ lw_tbl := lw_at lw_m1 48 rfl
theorem q333 : (Jvm.Cond.stringRef "ModulaWorks$Words" (15 : Nat) "BY") ∈ lw_tbl := lw_at lw_m1 49 rfl
theorem q334 : (Jvm.Cond.stringRef "ModulaWorks$Words" (17 : Nat) "CASE") ∈ lw_tbl := lw_at lw_m1 50 rfl
theorem q335 : (Jvm.Cond.stringRef "ModulaWorks$Words" (19 : Nat) "CONST") ∈ lw_tbl := lw_at lw_m1 51 rfl
theorem q336 : (Jvm.Cond.stringRef "ModulaWorks$Words" (21 : Nat) "DEFINITION") ∈ lw_tbl := lw_at lw_m1 52 rfl
theorem q337 : (Jvm.Cond.stringRef "ModulaWorks$Words" (23 : Nat) "DIV") ∈ lw_tbl := lw_at lw_m1 53 rfl
theorem q338 : (Jvm.Cond.stringRef "ModulaWorks$Words" (25 : Nat) "DO") ∈ lw_tbl := lw_at lw_m1 54 rfl
theorem q339 : (Jvm.Cond.stringRef "ModulaWorks$Words" (27 : Nat) "ELSE") ∈ lw_tbl := lw_at lw_m1 55 rfl
theorem q340 : (Jvm.Cond.stringRef "ModulaWorks$Words" (29 : Nat) "ELSIF") ∈ lw_tbl := lw_at lw_m1 56 rfl
theorem q341 : (Jvm.Cond.stringRef "ModulaWorks$Words" (31 : Nat) "END") ∈ lw_tbl := lw_at lw_m1 57 rfl
theorem q342 : (Jvm.Cond.stringRef "ModulaWorks$Words" (33 : Nat) "EXIT") ∈ lw_tbl := lw_at lw_m1 58 rfl
theorem q343 : (Jvm.Cond.stringRef "ModulaWorks$Words" (35 : Nat) "EXPORT") ∈ lw_tbl := lw_at lw_m1 59 rfl
theorem q344 : (Jvm.Cond.stringRef "ModulaWorks$Words" (37 : Nat) "FOR") ∈ lw_tbl := lw_at lw_m1 60 rfl
theorem q345 : (Jvm.Cond.stringRef "ModulaWorks$Words" (39 : Nat) "FORWARD") ∈ lw_tbl := lw_at lw_m1 61 rfl
theorem q346 : (Jvm.Cond.stringRef "ModulaWorks$Words" (41 : Nat) "FROM") ∈ lw_tbl := lw_at lw_m1 62 rfl
theorem q347 : (Jvm.Cond.stringRef "ModulaWorks$Words" (43 : Nat) "IF") ∈ lw_tbl := lw_at lw_m1 63 rfl
theorem q348 : (Jvm.Cond.stringRef "ModulaWorks$Words" (45 : Nat) "IMPLEMENTATION") ∈ lw_tbl := lw_at lw_m1 64 rfl
theorem q349 : (Jvm.Cond.stringRef "ModulaWorks$Words" (47 : Nat) "IMPORT") ∈ lw_tbl := lw_at lw_m1 65 rfl
theorem q350 : (Jvm.Cond.stringRef "ModulaWorks$Words" (49 : Nat) "IN") ∈ lw_tbl := lw_at lw_m1 66 rfl
theorem q351 : (Jvm.Cond.stringRef "ModulaWorks$Words" (51 : Nat) "LOOP") ∈ lw_tbl := lw_at lw_m1 67 rfl
theorem q352 : (Jvm.Cond.stringRef "ModulaWorks$Words" (53 : Nat) "MOD") ∈ lw_tbl := lw_at lw_m1 68 rfl
theorem q353 : (Jvm.Cond.stringRef "ModulaWorks$Words" (55 : Nat) "MODULE") ∈ lw_tbl := lw_at lw_m1 69 rfl
theorem q354 : (Jvm.Cond.stringRef "ModulaWorks$Words" (57 : Nat) "NOT") ∈ lw_tbl := lw_at lw_m1 70 rfl
theorem q355 : (Jvm.Cond.stringRef "ModulaWorks$Words" (59 : Nat) "OF") ∈ lw_tbl := lw_at lw_m1 71 rfl
theorem q356 : (Jvm.Cond.stringRef "ModulaWorks$Words" (61 : Nat) "OR") ∈ lw_tbl := lw_at lw_m1 72 rfl
theorem q357 : (Jvm.Cond.stringRef "ModulaWorks$Words" (63 : Nat) "POINTER") ∈ lw_tbl := lw_at lw_m1 73 rfl
theorem q358 : (Jvm.Cond.stringRef "ModulaWorks$Words" (65 : Nat) "PROCEDURE") ∈ lw_tbl := lw_at lw_m1 74 rfl
theorem q359 : (Jvm.Cond.stringRef "ModulaWorks$Words" (67 : Nat) "QUALIFIED") ∈ lw_tbl := lw_at lw_m1 75 rfl
theorem q360 : (Jvm.Cond.stringRef "ModulaWorks$Words" (69 : Nat) "RECORD") ∈ lw_tbl := lw_at lw_m1 76 rfl
theorem q361 : (Jvm.Cond.stringRef "ModulaWorks$Words" (71 : Nat) "REPEAT") ∈ lw_tbl := lw_at lw_m1 77 rfl
theorem q362 : (Jvm.Cond.stringRef "ModulaWorks$Words" (73 : Nat) "RETURN") ∈ lw_tbl := lw_at lw_m1 78 rfl
theorem q363 : (Jvm.Cond.stringRef "ModulaWorks$Words" (75 : Nat) "SET") ∈ lw_tbl := lw_at lw_m1 79 rfl
theorem q364 : (Jvm.Cond.stringRef "ModulaWorks$Words" (77 : Nat) "THEN") ∈ lw_tbl := lw_at lw_m1 80 rfl
theorem q365 : (Jvm.Cond.stringRef "ModulaWorks$Words" (79 : Nat) "TO") ∈ lw_tbl := lw_at lw_m1 81 rfl
theorem q366 : (Jvm.Cond.stringRef "ModulaWorks$Words" (81 : Nat) "TYPE") ∈ lw_tbl := lw_at lw_m1 82 rfl
theorem q367 : (Jvm.Cond.stringRef "ModulaWorks$Words" (83 : Nat) "UNTIL") ∈ lw_tbl := lw_at lw_m1 83 rfl
theorem q368 : (Jvm.Cond.stringRef "ModulaWorks$Words" (85 : Nat) "VAR") ∈ lw_tbl := lw_at lw_m1 84 rfl
theorem q369 : (Jvm.Cond.stringRef "ModulaWorks$Words" (87 : Nat) "WHILE") ∈ lw_tbl := lw_at lw_m1 85 rfl
theorem q370 : (Jvm.Cond.stringRef "ModulaWorks$Words" (89 : Nat) "WITH") ∈ lw_tbl := lw_at lw_m1 86 rfl
theorem q2857 : (Jvm.Cond.constantLong "ModulaWorks$Text" (109 : Nat) (65535 : Int64)) ∈ lw_all := lw_g (lw_at lw_m11 173 rfl) rfl
theorem q2858 : (Jvm.Cond.constantLong "ModulaWorks$Text" (111 : Nat) (255 : Int64)) ∈ lw_all := lw_g (lw_at lw_m11 174 rfl) rfl
theorem q2870 : (Jvm.Cond.stringRef "ModulaWorks$Text" (113 : Nat) "+-*/.,;()[]{}^|=#<>:") ∈ lw_tbl := lw_at lw_m11 186 rfl
theorem q651 : (Jvm.Cond.stringRef "ModulaWorks$Sense" (54 : Nat) "ABS") ∈ lw_tbl := lw_at lw_m2 127 rfl
theorem q652 : (Jvm.Cond.stringRef "ModulaWorks$Sense" (56 : Nat) "CAP") ∈ lw_tbl := lw_at lw_m2 128 rfl
theorem q653 : (Jvm.Cond.stringRef "ModulaWorks$Sense" (58 : Nat) "CHR") ∈ lw_tbl := lw_at lw_m2 129 rfl
theorem q654 : (Jvm.Cond.stringRef "ModulaWorks$Sense" (60 : Nat) "HIGH") ∈ lw_tbl := lw_at lw_m2 130 rfl
theorem q655 : (Jvm.Cond.stringRef "ModulaWorks$Sense" (62 : Nat) "MAX") ∈ lw_tbl := lw_at lw_m2 131 rfl
theorem q656 : (Jvm.Cond.stringRef "ModulaWorks$Sense" (64 : Nat) "MIN") ∈ lw_tbl := lw_at lw_m2 132 rfl
theorem q657 : (Jvm.Cond.stringRef "ModulaWorks$Sense" (66 : Nat) "ODD") ∈ lw_tbl := lw_at lw_m2 133 rfl
theorem q658 : (Jvm.Cond.stringRef "ModulaWorks$Sense" (68 : Nat) "ORD") ∈ lw_tbl := lw_at lw_m2 134 rfl
theorem q659 : (Jvm.Cond.stringRef "ModulaWorks$Sense" (70 : Nat) "SIZE") ∈ lw_tbl := lw_at lw_m2 135 rfl
theorem q660 : (Jvm.Cond.stringRef "ModulaWorks$Sense" (72 : Nat) "VAL") ∈ lw_tbl := lw_at lw_m2 136 rfl
theorem q661 : (Jvm.Cond.stringRef "ModulaWorks$Sense" (74 : Nat) "DEC") ∈ lw_tbl := lw_at lw_m2 137 rfl
theorem q662 : (Jvm.Cond.stringRef "ModulaWorks$Sense" (76 : Nat) "DISPOSE") ∈ lw_tbl := lw_at lw_m2 138 rfl
theorem q663 : (Jvm.Cond.stringRef "ModulaWorks$Sense" (78 : Nat) "EXCL") ∈ lw_tbl := lw_at lw_m2 139 rfl
theorem q664 : (Jvm.Cond.stringRef "ModulaWorks$Sense" (80 : Nat) "HALT") ∈ lw_tbl := lw_at lw_m2 140 rfl
theorem q665 : (Jvm.Cond.stringRef "ModulaWorks$Sense" (82 : Nat) "INC") ∈ lw_tbl := lw_at lw_m2 141 rfl
theorem q666 : (Jvm.Cond.stringRef "ModulaWorks$Sense" (84 : Nat) "INCL") ∈ lw_tbl := lw_at lw_m2 142 rfl
theorem q667 : (Jvm.Cond.stringRef "ModulaWorks$Sense" (86 : Nat) "NEW") ∈ lw_tbl := lw_at lw_m2 143 rfl
theorem q668 : (Jvm.Cond.stringRef "ModulaWorks$Sense" (92 : Nat) "Read") ∈ lw_tbl := lw_at lw_m2 144 rfl
theorem q669 : (Jvm.Cond.stringRef "ModulaWorks$Sense" (94 : Nat) "Write") ∈ lw_tbl := lw_at lw_m2 145 rfl
theorem q670 : (Jvm.Cond.stringRef "ModulaWorks$Sense" (96 : Nat) "WriteCard") ∈ lw_tbl := lw_at lw_m2 146 rfl
theorem q671 : (Jvm.Cond.stringRef "ModulaWorks$Sense" (98 : Nat) "WriteInt") ∈ lw_tbl := lw_at lw_m2 147 rfl
theorem q672 : (Jvm.Cond.stringRef "ModulaWorks$Sense" (100 : Nat) "WriteLn") ∈ lw_tbl := lw_at lw_m2 148 rfl
theorem q673 : (Jvm.Cond.stringRef "ModulaWorks$Sense" (102 : Nat) "WriteString") ∈ lw_tbl := lw_at lw_m2 149 rfl
theorem q1488 : (Jvm.Cond.constant "ModulaWorks$Sense" (297 : Nat) (65535 : Int32)) ∈ lw_all := lw_g (lw_at lw_m6 4 rfl) rfl
theorem q1489 : (Jvm.Cond.stringRef "ModulaWorks$Sense" (328 : Nat) "INTEGER") ∈ lw_tbl := lw_at lw_m6 5 rfl
theorem q1620 : (Jvm.Cond.stringRef "ModulaWorks$Sense" (334 : Nat) "CARDINAL") ∈ lw_tbl := lw_at lw_m6 136 rfl
theorem q1621 : (Jvm.Cond.stringRef "ModulaWorks$Sense" (336 : Nat) "CHAR") ∈ lw_tbl := lw_at lw_m6 137 rfl
theorem q1622 : (Jvm.Cond.stringRef "ModulaWorks$Sense" (338 : Nat) "BOOLEAN") ∈ lw_tbl := lw_at lw_m6 138 rfl
theorem q1623 : (Jvm.Cond.stringRef "ModulaWorks$Sense" (340 : Nat) "BITSET") ∈ lw_tbl := lw_at lw_m6 139 rfl
theorem q1624 : (Jvm.Cond.stringRef "ModulaWorks$Sense" (342 : Nat) "PROC") ∈ lw_tbl := lw_at lw_m6 140 rfl
theorem q1625 : (Jvm.Cond.stringRef "ModulaWorks$Sense" (344 : Nat) "FALSE") ∈ lw_tbl := lw_at lw_m6 141 rfl
theorem q1626 : (Jvm.Cond.stringRef "ModulaWorks$Sense" (346 : Nat) "TRUE") ∈ lw_tbl := lw_at lw_m6 142 rfl
theorem q1627 : (Jvm.Cond.stringRef "ModulaWorks$Sense" (348 : Nat) "NIL") ∈ lw_tbl := lw_at lw_m6 143 rfl
theorem q1628 : (Jvm.Cond.stringRef "ModulaWorks$Sense" (350 : Nat) "InOut") ∈ lw_tbl := lw_at lw_m6 144 rfl
theorem q1633 : (Jvm.Cond.stringRef "ModulaWorks$Sense" (359 : Nat) "SYSTEM") ∈ lw_tbl := lw_at lw_m6 149 rfl
theorem q1634 : (Jvm.Cond.stringRef "ModulaWorks$Sense" (364 : Nat) "PROCESS") ∈ lw_tbl := lw_at lw_m6 150 rfl
theorem q1635 : (Jvm.Cond.stringRef "ModulaWorks$Sense" (366 : Nat) "NEWPROCESS") ∈ lw_tbl := lw_at lw_m6 151 rfl
theorem q1636 : (Jvm.Cond.stringRef "ModulaWorks$Sense" (368 : Nat) "TRANSFER") ∈ lw_tbl := lw_at lw_m6 152 rfl
theorem q2201 : (Jvm.Cond.constantLong "ModulaWorks$Sense" (566 : Nat) (2048 : Int64)) ∈ lw_all := lw_g (lw_at lw_m8 237 rfl) rfl
theorem q2261 : (Jvm.Cond.constant "ModulaWorks$Sense" (643 : Nat) (59392 : Int32)) ∈ lw_all := lw_g (lw_at lw_m9 57 rfl) rfl
theorem q2145 : (Jvm.Cond.constantLong "ModulaWorks$Sense" (819 : Nat) (3085783786 : Int64)) ∈ lw_all := lw_g (lw_at lw_m8 181 rfl) rfl
theorem q2144 : (Jvm.Cond.constantLong "ModulaWorks$Sense" (863 : Nat) (3085785834 : Int64)) ∈ lw_all := lw_g (lw_at lw_m8 180 rfl) rfl
theorem q1928 : (Jvm.Cond.constantLong "ModulaWorks$Sense" (926 : Nat) (1579374315 : Int64)) ∈ lw_all := lw_g (lw_at lw_m7 204 rfl) rfl
theorem q2000 : (Jvm.Cond.constant "ModulaWorks$Sense" (994 : Nat) (32768 : Int32)) ∈ lw_all := lw_g (lw_at lw_m8 36 rfl) rfl
theorem q2454 : (Jvm.Cond.constant "ModulaWorks$Sense" (1120 : Nat) (12053842 : Int32)) ∈ lw_all := lw_g (lw_at lw_m10 10 rfl) rfl
theorem q639 : (Jvm.Cond.constant "ModulaWorks$Maker" (7 : Nat) (65536 : Int32)) ∈ lw_all := lw_g (lw_at lw_m2 115 rfl) rfl
theorem q1785 : (Jvm.Cond.constant "ModulaWorks$Maker" (18 : Nat) (65535 : Int32)) ∈ lw_all := lw_g (lw_at lw_m7 61 rfl) rfl
theorem q838 : (Jvm.Cond.stringRef "ModulaWorks$Kernel" (11 : Nat) "3E 03 C3 =trap") ∈ lw_tbl := lw_at lw_m3 74 rfl
theorem q839 : (Jvm.Cond.stringRef "ModulaWorks$Kernel" (13 : Nat) "3E 01 C3 =trap") ∈ lw_tbl := lw_at lw_m3 75 rfl
theorem q840 : (Jvm.Cond.stringRef "ModulaWorks$Kernel" (15 : Nat) "3E 02 C3 =trap") ∈ lw_tbl := lw_at lw_m3 76 rfl
theorem q841 : (Jvm.Cond.stringRef "ModulaWorks$Kernel" (17 : Nat) "3E 04 C3 =trap") ∈ lw_tbl := lw_at lw_m3 77 rfl
theorem q842 : (Jvm.Cond.stringRef "ModulaWorks$Kernel" (19 : Nat) "3E 05 C3 =trap") ∈ lw_tbl := lw_at lw_m3 78 rfl
theorem q843 : (Jvm.Cond.stringRef "ModulaWorks$Kernel" (21 : Nat) "3E 06 C3 =trap") ∈ lw_tbl := lw_at lw_m3 79 rfl
theorem q844 : (Jvm.Cond.stringRef "ModulaWorks$Kernel" (23 : Nat) "3E 07 C3 =trap") ∈ lw_tbl := lw_at lw_m3 80 rfl
theorem q845 : (Jvm.Cond.stringRef "ModulaWorks$Kernel" (25 : Nat) "E3 5E 23 56 23 4E 23 46 23 E3 E5 B7 ED 52 E1 DA #1 E5 50 59 EB B7 ED 52 E1 DA #1 C9") ∈ lw_tbl := lw_at lw_m3 81 rfl
theorem q846 : (Jvm.Cond.stringRef "ModulaWorks$Kernel" (27 : Nat) "E3 5E 23 56 23 4E 23 46 23 E3 7C EE 80 67 E5 B7 ED 52 E1 DA #1 E5 50 59 EB B7 ED 52 E1 DA #1 7C EE 80 67 C9") ∈ lw_tbl := lw_at lw_m3 82 rfl
theorem q847 : (Jvm.Cond.stringRef "ModulaWorks$Kernel" (29 : Nat) "E3 5E 23 56 23 4E 23 46 23 E3 B7 ED 52 E5 50 59 EB B7 ED 52 E1 DA #2 C9") ∈ lw_tbl := lw_at lw_m3 83 rfl
theorem q848 : (Jvm.Cond.stringRef "ModulaWorks$Kernel" (31 : Nat) "E5 EB B7 ED 52 E1 DA #2 C9") ∈ lw_tbl := lw_at lw_m3 84 rfl
theorem q849 : (Jvm.Cond.stringRef "ModulaWorks$Kernel" (33 : Nat) "7C B5 CA #4 2B 2B 2B 2B 7E B7 23 23 23 23 CA =gone C9") ∈ lw_tbl := lw_at lw_m3 85 rfl
theorem q850 : (Jvm.Cond.stringRef "ModulaWorks$Kernel" (35 : Nat) "E1 4E 23 5E 23 56 23 E5 DD E5 E1 up: D5 11 04 00 19 5E 23 56 EB D1 0D 20 ~up 19 C9") ∈ lw_tbl := lw_at lw_m3 86 rfl
theorem q851 : (Jvm.Cond.stringRef "ModulaWorks$Kernel" (37 : Nat) "7C EE 80 67 7A EE 80 57 B7 ED 52 C9") ∈ lw_tbl := lw_at lw_m3 87 rfl
theorem q852 : (Jvm.Cond.stringRef "ModulaWorks$Kernel" (39 : Nat) "44 4D 21 00 00 3E 10 mul: 29 DA #0 CB 23 CB 12 30 ~mulno 09 DA #0 mulno: 3D 20 ~mul C9") ∈ lw_tbl := lw_at lw_m3 88 rfl
theorem q853 : (Jvm.Cond.stringRef "ModulaWorks$Kernel" (41 : Nat) "7C AA F5 CD =abs EB CD =abs CD #14 F1 B7 FA =mulneg CB 7C C2 #0 C9 mulneg: EB 21 00 00 B7 ED 52 7C B5 C8 CB 7C CA #0 C9") ∈ lw_tbl := lw_at lw_m3 89 rfl
theorem q854 : (Jvm.Cond.stringRef "ModulaWorks$Kernel" (43 : Nat) "CD =divu 60 69 C9") ∈ lw_tbl := lw_at lw_m3 90 rfl
theorem q855 : (Jvm.Cond.stringRef "ModulaWorks$Kernel" (45 : Nat) "CD =divu C9") ∈ lw_tbl := lw_at lw_m3 91 rfl
theorem q856 : (Jvm.Cond.stringRef "ModulaWorks$Kernel" (47 : Nat) "7A B7 FA #3 B3 CA #3 CB 7C 28 ~divpos CD =abs 19 2B CD =divu 60 69 C3 =neg divpos: CD =divu 60 69 C9") ∈ lw_tbl := lw_at lw_m3 92 rfl
theorem q857 : (Jvm.Cond.stringRef "ModulaWorks$Kernel" (49 : Nat) "7A B7 FA #3 B3 CA #3 CB 7C 28 ~modpos CD =abs D5 CD =divu D1 7C B5 C8 EB B7 ED 52 C9 modpos: CD =divu C9") ∈ lw_tbl := lw_at lw_m3 93 rfl
theorem q858 : (Jvm.Cond.stringRef "ModulaWorks$Kernel" (51 : Nat) "E3 46 23 4E 23 E3 7C B7 20 ~inno 7D B8 38 ~inno 79 BD 38 ~inno 7D B7 28 ~indone 47 inup: CB 3A CB 1B 10 ~inup indone: 7B E6 01 6F 26 00 C9 inno: 21 00 00 C9") ∈ lw_tbl := lw_at lw_m3 94 rfl
theorem q859 : (Jvm.Cond.stringRef "ModulaWorks$Kernel" (53 : Nat) "D1 CD =limits CD =canbe 7D E1 D5 CD =bit 7D B3 6F 7C B2 67 C9") ∈ lw_tbl := lw_at lw_m3 95 rfl
theorem q860 : (Jvm.Cond.stringRef "ModulaWorks$Kernel" (55 : Nat) "D1 CD =limits CD =canbe E3 CD =canbe 7D E1 4D E1 D5 elnext: B9 28 ~elone 30 ~elend elone: F5 CD =bit 7D B3 6F 7C B2 67 F1 3C 18 ~elnext elend: C9") ∈ lw_tbl := lw_at lw_m3 96 rfl
theorem q861 : (Jvm.Cond.stringRef "ModulaWorks$Kernel" (57 : Nat) "E1 5E 23 56 23 E5 21 02 00 19 39 5E 23 56 7A B3 CA #4 D5 C9") ∈ lw_tbl := lw_at lw_m3 97 rfl
theorem q862 : (Jvm.Cond.stringRef "ModulaWorks$Kernel" (59 : Nat) "E1 5E 16 00 23 E5 19 E3 C9") ∈ lw_tbl := lw_at lw_m3 98 rfl
theorem q863 : (Jvm.Cond.stringRef "ModulaWorks$Kernel" (67 : Nat) "E1 5E 23 56 23 4E 23 46 23 22 EC 00 2A E2 00 B7 ED 52 DA =nospace 22 E2 00 2A E4 00 23 22 E4 00 DD E5 DD 21 00 00 DD 39 D5 0B 0B 21 00 00 B7 ED 42 39 F9 36 00 54 5D 13 0B ED B0 2A EC 00 E9") ∈ lw_tbl := lw_at lw_m3 99 rfl
theorem q864 : (Jvm.Cond.stringRef "ModulaWorks$Kernel" (69 : Nat) "22 EE 00 DD 5E FE DD 56 FF 2A E2 00 19 22 E2 00 2A E4 00 2B 22 E4 00 DD F9 DD E1 D1 21 00 00 39 09 F9 D5 2A EE 00 C9") ∈ lw_tbl := lw_at lw_m3 100 rfl
theorem q865 : (Jvm.Cond.stringRef "ModulaWorks$Kernel" (71 : Nat) "E1 7E 23 5E 23 56 23 22 EC 00 4F 06 00 DD E5 E1 09 22 EE 00 4E 23 46 03 60 69 CD #28 EB 2A E2 00 B7 ED 52 DA =nocopy 22 E2 00 DD 6E FE DD 66 FF 19 DD 75 FE DD 74 FF 7A B3 CA =copied 42 4B 21 00 00 B7 ED 52 39 F9 EB 2A EE 00 23 23 7E 73 32 F0 00 23 7E 72 32 F1 00 2A F0 00 ED B0 copied: 2A EC 00 E9") ∈ lw_tbl := lw_at lw_m3 101 rfl
theorem q866 : (Jvm.Cond.stringRef "ModulaWorks$Kernel" (73 : Nat) "44 4D 21 00 00 3E 10 size: 29 CB 23 CB 12 30 ~sizeno 09 sizeno: 3D 20 ~size C9") ∈ lw_tbl := lw_at lw_m3 102 rfl
theorem q867 : (Jvm.Cond.stringRef "ModulaWorks$Kernel" (75 : Nat) "E3 4E 23 46 23 7E 23 32 F0 00 7E 23 32 F1 00 E3 78 B1 28 ~copyno C5 ED B0 C1 copyno: 2A F0 00 B7 ED 42 7C B5 C8 44 4D EB C3 =clear") ∈ lw_tbl := lw_at lw_m3 103 rfl
theorem q868 : (Jvm.Cond.stringRef "ModulaWorks$Kernel" (77 : Nat) "E3 4E 23 46 23 E3 E5 21 04 00 09 EB 2A E8 00 B7 ED 52 DA =noheap 22 E8 00 2A E6 00 36 01 23 36 00 23 36 00 23 36 00 23 EB E1 73 23 72 EB CD =clear 22 E6 00 C9") ∈ lw_tbl := lw_at lw_m3 104 rfl
theorem q869 : (Jvm.Cond.stringRef "ModulaWorks$Kernel" (79 : Nat) "E5 5E 23 56 EB CD #11 2B 2B 2B 2B 36 00 E1 36 00 23 36 00 C9") ∈ lw_tbl := lw_at lw_m3 105 rfl
theorem q870 : (Jvm.Cond.stringRef "ModulaWorks$Kernel" (81 : Nat) "D1 C1 E3 7C B5 CA #4 ED 43 F0 00 D5 E5 21 28 00 09 DA =noheap EB 2A E8 00 B7 ED 52 DA =noheap 22 E8 00 2A E6 00 E5 19 22 E6 00 D1 C1 EB 22 EE 00 EB 11 =ended 2B 72 2B 73 2B 70 2B 71 2B 36 00 2B 36 00 EB 2A EE 00 73 23 72 23 ED 5B F0 00 73 23 72 23 36 00 23 36 00 D1 E1 ED 4B EE 00 71 23 70 D3 07 D5 C9") ∈ lw_tbl := lw_at lw_m3 106 rfl
theorem q871 : (Jvm.Cond.stringRef "ModulaWorks$Kernel" (83 : Nat) "5E 23 56 7A B3 CA #4 ED 53 F0 00 C1 E1 C5 ED 4B EA 00 71 23 70 60 69 DD E5 ED 73 EE 00 ED 5B EE 00 73 23 72 23 ED 5B E2 00 73 23 72 23 ED 5B E4 00 73 23 72 2A F0 00 22 EA 00 5E 23 56 23 ED 53 EE 00 5E 23 56 23 ED 53 E2 00 5E 23 56 ED 53 E4 00 ED 7B EE 00 DD E1 C9") ∈ lw_tbl := lw_at lw_m3 107 rfl
theorem q872 : (Jvm.Cond.stringRef "ModulaWorks$Kernel" (85 : Nat) "DB 06 77 C9") ∈ lw_tbl := lw_at lw_m3 108 rfl
theorem q873 : (Jvm.Cond.stringRef "ModulaWorks$Kernel" (87 : Nat) "7D D3 03 C9") ∈ lw_tbl := lw_at lw_m3 109 rfl
theorem q874 : (Jvm.Cond.stringRef "ModulaWorks$Kernel" (89 : Nat) "AF 32 F3 00 number: 7A B7 C2 #1 7B FE 29 D2 #1 32 F2 00 06 00 digit: C5 11 0A 00 CD =divu 7D 60 69 C1 F5 04 7C B5 20 ~digit 3A F3 00 80 4F 3A F2 00 91 38 ~nopad 28 ~nopad 4F pad: 3E 20 D3 03 0D 20 ~pad nopad: 3A F3 00 B7 28 ~digits 3E 2D D3 03 digits: F1 C6 30 D3 03 10 ~digits C9") ∈ lw_tbl := lw_at lw_m3 110 rfl
theorem q875 : (Jvm.Cond.stringRef "ModulaWorks$Kernel" (91 : Nat) "AF CB 7C 28 ~plus D5 CD =abs D1 3E 01 plus: 32 F3 00 C3 =number") ∈ lw_tbl := lw_at lw_m3 111 rfl
theorem q876 : (Jvm.Cond.stringRef "ModulaWorks$Kernel" (93 : Nat) "13 letter: 7E B7 C8 D3 03 23 1B 7A B3 20 ~letter C9") ∈ lw_tbl := lw_at lw_m3 112 rfl
theorem q877 : (Jvm.Cond.stringRef "ModulaWorks$Kernel" (95 : Nat) "7D FE 61 D8 FE 7B D0 D6 20 6F C9") ∈ lw_tbl := lw_at lw_m3 113 rfl
theorem q878 : (Jvm.Cond.stringRef "ModulaWorks$Kernel" (97 : Nat) "CD =abs CB 7C C2 #0 C9") ∈ lw_tbl := lw_at lw_m3 114 rfl
theorem q879 : (Jvm.Cond.stringRef "ModulaWorks$Kernel" (99 : Nat) "E3 5E 23 56 23 4E 23 46 23 E3 E5 B7 ED 52 50 59 EB B7 ED 52 E1 3F C9") ∈ lw_tbl := lw_at lw_m3 115 rfl
theorem q880 : (Jvm.Cond.stringRef "ModulaWorks$Kernel" (101 : Nat) "7C B7 C2 #1 C9") ∈ lw_tbl := lw_at lw_m3 116 rfl
theorem q881 : (Jvm.Cond.stringRef "ModulaWorks$Kernel" (103 : Nat) "D1 CD =limits CD =canbe 7D E1 D5 CD =bit 7E B3 77 23 7E B2 77 C9") ∈ lw_tbl := lw_at lw_m3 117 rfl
theorem q882 : (Jvm.Cond.stringRef "ModulaWorks$Kernel" (105 : Nat) "D1 CD =limits CD =canbe 7D E1 D5 CD =bit 7B 2F A6 77 23 7A 2F A6 77 C9") ∈ lw_tbl := lw_at lw_m3 118 rfl
theorem q883 : (Jvm.Cond.stringRef "ModulaWorks$Kernel" (107 : Nat) "AF C3 =change") ∈ lw_tbl := lw_at lw_m3 119 rfl
theorem q884 : (Jvm.Cond.stringRef "ModulaWorks$Kernel" (109 : Nat) "3E 01 C3 =change") ∈ lw_tbl := lw_at lw_m3 120 rfl
theorem q885 : (Jvm.Cond.stringRef "ModulaWorks$Kernel" (111 : Nat) "D3 04 76") ∈ lw_tbl := lw_at lw_m3 121 rfl
theorem q886 : (Jvm.Cond.stringRef "ModulaWorks$Kernel" (113 : Nat) "CD =bounds ED 5B FC 00 2A FA 00 B7 28 ~upplain E5 D5 CD #13 D1 E1 18 ~uptest upplain: E5 B7 ED 52 E1 uptest: C1 38 ~upover ED 52 B7 ED 42 38 ~upover EB 09 B7 upover: C9") ∈ lw_tbl := lw_at lw_m3 122 rfl
theorem q887 : (Jvm.Cond.stringRef "ModulaWorks$Kernel" (115 : Nat) "CD =bounds 2A FC 00 ED 5B FA 00 B7 28 ~dnplain E5 D5 CD #13 D1 E1 18 ~dntest dnplain: E5 B7 ED 52 E1 dntest: C1 38 ~dnover E5 B7 ED 52 B7 ED 42 E1 38 ~dnover B7 ED 42 B7 dnover: C9") ∈ lw_tbl := lw_at lw_m3 123 rfl
theorem q888 : (Jvm.Cond.stringRef "ModulaWorks$Kernel" (117 : Nat) "CB 7C CA #9 C3 #2") ∈ lw_tbl := lw_at lw_m3 124 rfl
theorem q889 : (Jvm.Cond.stringRef "ModulaWorks$Kernel" (122 : Nat) "trap: D3 02 76 gone: 3E 0A C3 =trap noheap: 3E 09 C3 =trap ended: 3E 0B C3 =trap") ∈ lw_tbl := lw_at lw_m3 125 rfl
theorem q890 : (Jvm.Cond.stringRef "ModulaWorks$Kernel" (124 : Nat) "nocopy: DD 5E FE DD 56 FF 2A E2 00 19 22 E2 00 2A E4 00 2B 22 E4 00 nospace: 3E 08 C3 =trap") ∈ lw_tbl := lw_at lw_m3 126 rfl
theorem q891 : (Jvm.Cond.stringRef "ModulaWorks$Kernel" (126 : Nat) "abs: 7C B7 F0 neg: AF 95 6F 9F 94 67 C9") ∈ lw_tbl := lw_at lw_m3 127 rfl
theorem q892 : (Jvm.Cond.stringRef "ModulaWorks$Kernel" (128 : Nat) "divu: 7A B3 CA #3 44 4D 21 00 00 3E 10 divup: CB 21 CB 10 ED 6A 38 ~divbig ED 52 30 ~divone 19 18 ~divnext divbig: B7 ED 52 divone: 0C divnext: 3D 20 ~divup C9") ∈ lw_tbl := lw_at lw_m3 128 rfl
theorem q893 : (Jvm.Cond.stringRef "ModulaWorks$Kernel" (130 : Nat) "limits: 1A 47 13 1A 4F 13 C9") ∈ lw_tbl := lw_at lw_m3 129 rfl
theorem q894 : (Jvm.Cond.stringRef "ModulaWorks$Kernel" (132 : Nat) "canbe: 7C B7 C2 #1 7D B8 DA #1 79 BD DA #1 C9") ∈ lw_tbl := lw_at lw_m3 130 rfl
theorem q895 : (Jvm.Cond.stringRef "ModulaWorks$Kernel" (134 : Nat) "bit: 11 01 00 47 B7 C8 bitup: CB 23 CB 12 10 ~bitup C9") ∈ lw_tbl := lw_at lw_m3 131 rfl
theorem q896 : (Jvm.Cond.stringRef "ModulaWorks$Kernel" (136 : Nat) "clear: 78 B1 C8 clearup: 36 00 23 0B 78 B1 20 ~clearup C9") ∈ lw_tbl := lw_at lw_m3 132 rfl
theorem q897 : (Jvm.Cond.stringRef "ModulaWorks$Kernel" (138 : Nat) "bounds: ED 53 FA 00 22 FC 00 C1 E1 7E 23 5E 23 56 23 E5 D5 C5 C9") ∈ lw_tbl := lw_at lw_m3 133 rfl
theorem q898 : (Jvm.Cond.stringRef "ModulaWorks$Kernel" (140 : Nat) "change: 32 F1 00 D1 1A 32 F0 00 13 ED 53 EC 00 0E 00 3A F0 00 E6 01 28 ~ch1 CB 7C 28 ~ch1 0D ch1: 3A F1 00 B7 28 ~ch2 AF 95 6F 3E 00 9C 67 3E 00 99 4F ch2: 22 FA 00 79 32 FC 00 E1 E5 5E 16 00 3A F0 00 E6 04 20 ~ch3 23 56 ch3: 06 00 3A F0 00 E6 02 28 ~ch4 CB 7A 28 ~ch4 05 ch4: 2A FA 00 19 3A FC 00 88 57 3A F0 00 CB 5F 28 ~ch6 CB 4F 20 ~ch5 7A B7 C2 #0 18 ~ch7 ch5: 7C 17 9F BA C2 #0 18 ~ch7 ch6: 7A B7 C2 #1 ch7: 3A F0 00 E6 02 28 ~ch8 7C EE 80 67 ch8: EB 2A EC 00 4E 23 46 23 E5 62 6B B7 ED 42 E1 DA #1 4E 23 46 23 22 EC 00 60 69 B7 ED 52 DA #1 EB 3A F0 00 E6 02 28 ~ch9 7C EE 80 67 ch9: D1 EB 73 3A F0 00 E6 04 20 ~ch10 23 72 ch10: 2A EC 00 E9") ∈ lw_tbl := lw_at lw_m3 134 rfl
theorem q1148 : (Jvm.Cond.constant "ModulaWorks$Program" (20 : Nat) (65536 : Int32)) ∈ lw_all := lw_g (lw_at lw_m4 144 rfl) rfl
theorem q2503 : (Jvm.Cond.constant "ModulaWorks$Program" (50 : Nat) (59392 : Int32)) ∈ lw_all := lw_g (lw_at lw_m10 59 rfl) rfl
theorem q2513 : (Jvm.Cond.constant "ModulaWorks$Program" (68 : Nat) (40960 : Int32)) ∈ lw_all := lw_g (lw_at lw_m10 69 rfl) rfl
theorem q2726 : (Jvm.Cond.constant "ModulaWorks$Program" (119 : Nat) (65535 : Int32)) ∈ lw_all := lw_g (lw_at lw_m11 42 rfl) rfl
theorem q1108 : (Jvm.Cond.constant "ModulaWorks$Chip" (7 : Nat) (65536 : Int32)) ∈ lw_all := lw_g (lw_at lw_m4 104 rfl) rfl
theorem q2512 : (Jvm.Cond.constant "ModulaWorks$Chip" (25 : Nat) (65535 : Int32)) ∈ lw_all := lw_g (lw_at lw_m10 68 rfl) rfl
theorem q2763 : (Jvm.Cond.constant "ModulaWorks$Chip" (183 : Nat) (32768 : Int32)) ∈ lw_all := lw_g (lw_at lw_m11 79 rfl) rfl
theorem q1487 : (Jvm.Cond.constant "ModulaWorks$Type" (21 : Nat) (65535 : Int32)) ∈ lw_all := lw_g (lw_at lw_m6 3 rfl) rfl
theorem q969 : (Jvm.Cond.stringRef "java/lang/StringLatin1" (151 : Nat) "") ∈ lw_tbl := lw_at lw_m3 205 rfl
theorem q2582 : (Jvm.Cond.constant "java/lang/Integer" (265 : Nat) (1431655765 : Int32)) ∈ lw_all := lw_g (lw_at lw_m10 138 rfl) rfl
theorem q2583 : (Jvm.Cond.constant "java/lang/Integer" (266 : Nat) (858993459 : Int32)) ∈ lw_all := lw_g (lw_at lw_m10 139 rfl) rfl
theorem q2584 : (Jvm.Cond.constant "java/lang/Integer" (267 : Nat) (252645135 : Int32)) ∈ lw_all := lw_g (lw_at lw_m10 140 rfl) rfl
theorem q284 : (Jvm.Cond.initialized "ModulaWorksLaw") ∈ lw_all := lw_g (lw_at lw_m1 0 rfl) rfl
theorem q2782 : (Jvm.Cond.code ({ cls := "ModulaWorksLaw", name := "put", desc := "(LModulaWorks;[JI)V" } : Jvm.MethodName) method_2_code (5 : Nat) (Option.none : Option Jvm.ClassFile.FieldType)) ∈ lw_all := lw_g (lw_at lw_m11 98 rfl) rfl
theorem q2794 : (Jvm.Cond.code ({ cls := "ModulaWorksLaw", name := "compile", desc := "(LModulaWorks;[J)I" } : Jvm.MethodName) method_3_code (3 : Nat) (Option.some Jvm.ClassFile.FieldType.int)) ∈ lw_all := lw_g (lw_at lw_m11 110 rfl) rfl
theorem q3072 : (Jvm.Cond.code ({ cls := "ModulaWorksLaw", name := "word", desc := "(LModulaWorks;[JJ)V" } : Jvm.MethodName) method_4_code (6 : Nat) (Option.none : Option Jvm.ClassFile.FieldType)) ∈ lw_all := lw_g (lw_at lw_m12 148 rfl) rfl
theorem q3076 : (Jvm.Cond.code ({ cls := "ModulaWorksLaw", name := "cell", desc := "([II)I" } : Jvm.MethodName) method_6_code (2 : Nat) (Option.some Jvm.ClassFile.FieldType.int)) ∈ lw_all := lw_g (lw_at lw_m12 152 rfl) rfl
theorem q3079 : (Jvm.Cond.code ({ cls := "ModulaWorksLaw", name := "tellAll", desc := "(LModulaWorks;[JII[J)V" } : Jvm.MethodName) method_16_code (6 : Nat) (Option.none : Option Jvm.ClassFile.FieldType)) ∈ lw_all := lw_g (lw_at lw_m12 155 rfl) rfl
theorem q3082 : (Jvm.Cond.code ({ cls := "ModulaWorksLaw", name := "kindOf", desc := "(I)I" } : Jvm.MethodName) method_15_code (1 : Nat) (Option.some Jvm.ClassFile.FieldType.int)) ∈ lw_all := lw_g (lw_at lw_m12 158 rfl) rfl
theorem q3085 : (Jvm.Cond.code ({ cls := "ModulaWorksLaw", name := "tell", desc := "(LModulaWorks;[JI)V" } : Jvm.MethodName) method_9_code (4 : Nat) (Option.none : Option Jvm.ClassFile.FieldType)) ∈ lw_all := lw_g (lw_at lw_m12 161 rfl) rfl
theorem q3089 : (Jvm.Cond.code ({ cls := "ModulaWorksLaw", name := "variable", desc := "(LModulaWorks;[JI)V" } : Jvm.MethodName) method_8_code (3 : Nat) (Option.none : Option Jvm.ClassFile.FieldType)) ∈ lw_all := lw_g (lw_at lw_m12 165 rfl) rfl
theorem q3095 : (Jvm.Cond.code ({ cls := "ModulaWorksLaw", name := "constant", desc := "(I)I" } : Jvm.MethodName) method_7_code (1 : Nat) (Option.some Jvm.ClassFile.FieldType.int)) ∈ lw_all := lw_g (lw_at lw_m12 171 rfl) rfl
theorem q3098 : (Jvm.Cond.code ({ cls := "ModulaWorksLaw", name := "number", desc := "(LModulaWorks;[JI)V" } : Jvm.MethodName) method_5_code (3 : Nat) (Option.none : Option Jvm.ClassFile.FieldType)) ∈ lw_all := lw_g (lw_at lw_m12 174 rfl) rfl
theorem q3119 : (Jvm.Cond.code ({ cls := "ModulaWorksLaw", name := "doAll", desc := "([J[IIIJJ)I" } : Jvm.MethodName) method_17_code (13 : Nat) (Option.some Jvm.ClassFile.FieldType.int)) ∈ lw_all := lw_g (lw_at lw_m12 195 rfl) rfl
theorem q3122 : (Jvm.Cond.code ({ cls := "ModulaWorksLaw", name := "step", desc := "([JJ)Z" } : Jvm.MethodName) method_12_code (3 : Nat) (Option.some Jvm.ClassFile.FieldType.boolean)) ∈ lw_all := lw_g (lw_at lw_m12 198 rfl) rfl
theorem q3125 : (Jvm.Cond.code ({ cls := "ModulaWorksLaw", name := "act", desc := "([JI)I" } : Jvm.MethodName) method_11_code (11 : Nat) (Option.some Jvm.ClassFile.FieldType.int)) ∈ lw_all := lw_g (lw_at lw_m12 201 rfl) rfl
theorem q3129 : (Jvm.Cond.code ({ cls := "ModulaWorksLaw", name := "down", desc := "(JJ)J" } : Jvm.MethodName) method_10_code (6 : Nat) (Option.some Jvm.ClassFile.FieldType.long)) ∈ lw_all := lw_g (lw_at lw_m12 205 rfl) rfl
theorem q3135 : (Jvm.Cond.code ({ cls := "ModulaWorksLaw", name := "write", desc := "([J[IJI)V" } : Jvm.MethodName) method_14_code (11 : Nat) (Option.none : Option Jvm.ClassFile.FieldType)) ∈ lw_all := lw_g (lw_at lw_m12 211 rfl) rfl
theorem q3140 : (Jvm.Cond.code ({ cls := "ModulaWorksLaw", name := "letter", desc := "([J[II)V" } : Jvm.MethodName) method_13_code (3 : Nat) (Option.none : Option Jvm.ClassFile.FieldType)) ∈ lw_all := lw_g (lw_at lw_m12 216 rfl) rfl
theorem q318 : (Jvm.Cond.code ({ cls := "ModulaWorks", name := "<init>", desc := "()V" } : Jvm.MethodName) prog_1_method_3_code (1 : Nat) (Option.none : Option Jvm.ClassFile.FieldType)) ∈ lw_all := lw_g (lw_at lw_m1 34 rfl) rfl
theorem q1314 : (Jvm.Cond.code ({ cls := "ModulaWorks", name := "fault", desc := "(I)I" } : Jvm.MethodName) prog_1_method_9_code (2 : Nat) (Option.some Jvm.ClassFile.FieldType.int)) ∈ lw_all := lw_g (lw_at lw_m5 70 rfl) rfl
theorem q1318 : (Jvm.Cond.code ({ cls := "ModulaWorks", name := "unit", desc := "(II)I" } : Jvm.MethodName) prog_1_method_12_code (5 : Nat) (Option.some Jvm.ClassFile.FieldType.int)) ∈ lw_all := lw_g (lw_at lw_m5 74 rfl) rfl
theorem q1322 : (Jvm.Cond.code ({ cls := "ModulaWorks", name := "isUnit", desc := "(I)Z" } : Jvm.MethodName) prog_1_method_10_code (2 : Nat) (Option.some Jvm.ClassFile.FieldType.boolean)) ∈ lw_all := lw_g (lw_at lw_m5 78 rfl) rfl
theorem q1333 : (Jvm.Cond.code ({ cls := "ModulaWorks", name := "isSystem", desc := "(JJ)Z" } : Jvm.MethodName) prog_1_method_2_code (4 : Nat) (Option.some Jvm.ClassFile.FieldType.boolean)) ∈ lw_all := lw_g (lw_at lw_m5 89 rfl) rfl
theorem q1354 : (Jvm.Cond.code ({ cls := "ModulaWorks", name := "link", desc := "(I)I" } : Jvm.MethodName) prog_1_method_15_code (4 : Nat) (Option.some Jvm.ClassFile.FieldType.int)) ∈ lw_all := lw_g (lw_at lw_m5 110 rfl) rfl
theorem q1358 : (Jvm.Cond.code ({ cls := "ModulaWorks", name := "meet", desc := "(LModulaWorks$Unit;)V" } : Jvm.MethodName) prog_1_method_14_code (3 : Nat) (Option.none : Option Jvm.ClassFile.FieldType)) ∈ lw_all := lw_g (lw_at lw_m5 114 rfl) rfl
theorem q1496 : (Jvm.Cond.code ({ cls := "ModulaWorks", name := "half", desc := "(Ljava/lang/String;II)J" } : Jvm.MethodName) prog_1_method_1_code (6 : Nat) (Option.some Jvm.ClassFile.FieldType.long)) ∈ lw_all := lw_g (lw_at lw_m6 12 rfl) rfl
theorem q2493 : (Jvm.Cond.code ({ cls := "ModulaWorks", name := "order", desc := "(I)I" } : Jvm.MethodName) prog_1_method_16_code (2 : Nat) (Option.some Jvm.ClassFile.FieldType.int)) ∈ lw_all := lw_g (lw_at lw_m10 49 rfl) rfl
theorem q2497 : (Jvm.Cond.code ({ cls := "ModulaWorks", name := "start", desc := "()Z" } : Jvm.MethodName) prog_1_method_17_code (1 : Nat) (Option.some Jvm.ClassFile.FieldType.boolean)) ∈ lw_all := lw_g (lw_at lw_m10 53 rfl) rfl
theorem q2517 : (Jvm.Cond.code ({ cls := "ModulaWorks", name := "run", desc := "(I)I" } : Jvm.MethodName) prog_1_method_19_code (2 : Nat) (Option.some Jvm.ClassFile.FieldType.int)) ∈ lw_all := lw_g (lw_at lw_m10 73 rfl) rfl
theorem q2771 : (Jvm.Cond.code ({ cls := "ModulaWorks", name := "output", desc := "(I)I" } : Jvm.MethodName) prog_1_method_20_code (2 : Nat) (Option.some Jvm.ClassFile.FieldType.int)) ∈ lw_all := lw_g (lw_at lw_m11 87 rfl) rfl
theorem q2775 : (Jvm.Cond.code ({ cls := "ModulaWorks", name := "look", desc := "(I)I" } : Jvm.MethodName) prog_1_method_21_code (2 : Nat) (Option.some Jvm.ClassFile.FieldType.int)) ∈ lw_all := lw_g (lw_at lw_m11 91 rfl) rfl
theorem q2787 : (Jvm.Cond.code ({ cls := "ModulaWorks", name := "feed", desc := "(IIIII)I" } : Jvm.MethodName) prog_1_method_4_code (6 : Nat) (Option.some Jvm.ClassFile.FieldType.int)) ∈ lw_all := lw_g (lw_at lw_m11 103 rfl) rfl
theorem q2791 : (Jvm.Cond.code ({ cls := "ModulaWorks", name := "tapeFour", desc := "(I)V" } : Jvm.MethodName) prog_1_method_5_code (3 : Nat) (Option.none : Option Jvm.ClassFile.FieldType)) ∈ lw_all := lw_g (lw_at lw_m11 107 rfl) rfl
theorem q2798 : (Jvm.Cond.code ({ cls := "ModulaWorks", name := "compile", desc := "(I)I" } : Jvm.MethodName) prog_1_method_7_code (5 : Nat) (Option.some Jvm.ClassFile.FieldType.int)) ∈ lw_all := lw_g (lw_at lw_m11 114 rfl) rfl
theorem q3030 : (Jvm.Cond.code ({ cls := "ModulaWorks", name := "fails", desc := "(II)I" } : Jvm.MethodName) prog_1_method_6_code (3 : Nat) (Option.some Jvm.ClassFile.FieldType.int)) ∈ lw_all := lw_g (lw_at lw_m12 106 rfl) rfl
theorem q3065 : (Jvm.Cond.code ({ cls := "ModulaWorks", name := "tellKeys", desc := "(LModulaWorks$Unit;)V" } : Jvm.MethodName) prog_1_method_8_code (4 : Nat) (Option.none : Option Jvm.ClassFile.FieldType)) ∈ lw_all := lw_g (lw_at lw_m12 141 rfl) rfl
theorem q326 : (Jvm.Cond.code ({ cls := "ModulaWorks$Words", name := "<init>", desc := "()V" } : Jvm.MethodName) prog_18_method_1_code (1 : Nat) (Option.none : Option Jvm.ClassFile.FieldType)) ∈ lw_all := lw_g (lw_at lw_m1 42 rfl) rfl
theorem q2839 : (Jvm.Cond.code ({ cls := "ModulaWorks$Words", name := "many", desc := "()I" } : Jvm.MethodName) prog_18_method_3_code (1 : Nat) (Option.some Jvm.ClassFile.FieldType.int)) ∈ lw_all := lw_g (lw_at lw_m11 155 rfl) rfl
theorem q2843 : (Jvm.Cond.code ({ cls := "ModulaWorks$Words", name := "at", desc := "(I)Ljava/lang/String;" } : Jvm.MethodName) prog_18_method_2_code (2 : Nat) (Option.some (Jvm.ClassFile.FieldType.object "java/lang/String"))) ∈ lw_all := lw_g (lw_at lw_m11 159 rfl) rfl
theorem q380 : (Jvm.Cond.code ({ cls := "ModulaWorks$Shelf", name := "<init>", desc := "(LModulaWorks$Words;)V" } : Jvm.MethodName) prog_13_method_1_code (3 : Nat) (Option.none : Option Jvm.ClassFile.FieldType)) ∈ lw_all := lw_g (lw_at lw_m1 96 rfl) rfl
theorem q1330 : (Jvm.Cond.code ({ cls := "ModulaWorks$Shelf", name := "hasKeys", desc := "(LModulaWorks$Unit;Z)Z" } : Jvm.MethodName) prog_13_method_4_code (5 : Nat) (Option.some Jvm.ClassFile.FieldType.boolean)) ∈ lw_all := lw_g (lw_at lw_m5 86 rfl) rfl
theorem q1345 : (Jvm.Cond.code ({ cls := "ModulaWorks$Shelf", name := "find", desc := "(IJJ)I" } : Jvm.MethodName) prog_13_method_2_code (7 : Nat) (Option.some Jvm.ClassFile.FieldType.int)) ∈ lw_all := lw_g (lw_at lw_m5 101 rfl) rfl
theorem q1382 : (Jvm.Cond.code ({ cls := "ModulaWorks$Shelf", name := "nextSession", desc := "()I" } : Jvm.MethodName) prog_13_method_8_code (1 : Nat) (Option.some Jvm.ClassFile.FieldType.int)) ∈ lw_all := lw_g (lw_at lw_m5 138 rfl) rfl
theorem q3052 : (Jvm.Cond.code ({ cls := "ModulaWorks$Shelf", name := "bytesNeeded", desc := "(LModulaWorks$Unit;I)I" } : Jvm.MethodName) prog_13_method_6_code (5 : Nat) (Option.some Jvm.ClassFile.FieldType.int)) ∈ lw_all := lw_g (lw_at lw_m12 128 rfl) rfl
theorem q387 : (Jvm.Cond.code ({ cls := "ModulaWorks$Unit", name := "<init>", desc := "(LModulaWorks$Words;)V" } : Jvm.MethodName) prog_17_method_1_code (2 : Nat) (Option.none : Option Jvm.ClassFile.FieldType)) ∈ lw_all := lw_g (lw_at lw_m1 103 rfl) rfl
theorem q1349 : (Jvm.Cond.code ({ cls := "ModulaWorks$Unit", name := "is", desc := "(IJJ)Z" } : Jvm.MethodName) prog_17_method_2_code (6 : Nat) (Option.some Jvm.ClassFile.FieldType.boolean)) ∈ lw_all := lw_g (lw_at lw_m5 105 rfl) rfl
theorem q3034 : (Jvm.Cond.code ({ cls := "ModulaWorks$Unit", name := "readHead", desc := "()V" } : Jvm.MethodName) prog_17_method_6_code (3 : Nat) (Option.none : Option Jvm.ClassFile.FieldType)) ∈ lw_all := lw_g (lw_at lw_m12 110 rfl) rfl
theorem q3038 : (Jvm.Cond.code ({ cls := "ModulaWorks$Unit", name := "name", desc := "(JJ)V" } : Jvm.MethodName) prog_17_method_4_code (5 : Nat) (Option.none : Option Jvm.ClassFile.FieldType)) ∈ lw_all := lw_g (lw_at lw_m12 114 rfl) rfl
theorem q3042 : (Jvm.Cond.code ({ cls := "ModulaWorks$Unit", name := "names", desc := "(JJ)Z" } : Jvm.MethodName) prog_17_method_3_code (6 : Nat) (Option.some Jvm.ClassFile.FieldType.boolean)) ∈ lw_all := lw_g (lw_at lw_m12 118 rfl) rfl
theorem q393 : (Jvm.Cond.code ({ cls := "ModulaWorks$Text", name := "<init>", desc := "(LModulaWorks$Words;)V" } : Jvm.MethodName) prog_15_method_1_code (2 : Nat) (Option.none : Option Jvm.ClassFile.FieldType)) ∈ lw_all := lw_g (lw_at lw_m1 109 rfl) rfl
theorem q1501 : (Jvm.Cond.code ({ cls := "ModulaWorks$Text", name := "codeOf", desc := "(I)J" } : Jvm.MethodName) prog_15_method_7_code (1 : Nat) (Option.some Jvm.ClassFile.FieldType.long)) ∈ lw_all := lw_g (lw_at lw_m6 17 rfl) rfl
theorem q1504 : (Jvm.Cond.code ({ cls := "ModulaWorks$Text", name := "isDigit", desc := "(I)Z" } : Jvm.MethodName) prog_15_method_5_code (1 : Nat) (Option.some Jvm.ClassFile.FieldType.boolean)) ∈ lw_all := lw_g (lw_at lw_m6 20 rfl) rfl
theorem q1797 : (Jvm.Cond.code ({ cls := "ModulaWorks$Text", name := "at", desc := "(I)I" } : Jvm.MethodName) prog_15_method_3_code (2 : Nat) (Option.some Jvm.ClassFile.FieldType.int)) ∈ lw_all := lw_g (lw_at lw_m7 73 rfl) rfl
theorem q2802 : (Jvm.Cond.code ({ cls := "ModulaWorks$Text", name := "take", desc := "([BI)V" } : Jvm.MethodName) prog_15_method_2_code (4 : Nat) (Option.none : Option Jvm.ClassFile.FieldType)) ∈ lw_all := lw_g (lw_at lw_m11 118 rfl) rfl
theorem q2806 : (Jvm.Cond.code ({ cls := "ModulaWorks$Text", name := "read", desc := "()V" } : Jvm.MethodName) prog_15_method_9_code (3 : Nat) (Option.none : Option Jvm.ClassFile.FieldType)) ∈ lw_all := lw_g (lw_at lw_m11 122 rfl) rfl
theorem q2810 : (Jvm.Cond.code ({ cls := "ModulaWorks$Text", name := "behindBlanks", desc := "(I)I" } : Jvm.MethodName) prog_15_method_10_code (4 : Nat) (Option.some Jvm.ClassFile.FieldType.int)) ∈ lw_all := lw_g (lw_at lw_m11 126 rfl) rfl
theorem q2819 : (Jvm.Cond.code ({ cls := "ModulaWorks$Text", name := "add", desc := "(IIJJ)V" } : Jvm.MethodName) prog_15_method_8_code (7 : Nat) (Option.none : Option Jvm.ClassFile.FieldType)) ∈ lw_all := lw_g (lw_at lw_m11 135 rfl) rfl
theorem q2822 : (Jvm.Cond.code ({ cls := "ModulaWorks$Text", name := "isLetter", desc := "(I)Z" } : Jvm.MethodName) prog_15_method_4_code (1 : Nat) (Option.some Jvm.ClassFile.FieldType.boolean)) ∈ lw_all := lw_g (lw_at lw_m11 138 rfl) rfl
theorem q2826 : (Jvm.Cond.code ({ cls := "ModulaWorks$Text", name := "word", desc := "(I)I" } : Jvm.MethodName) prog_15_method_13_code (8 : Nat) (Option.some Jvm.ClassFile.FieldType.int)) ∈ lw_all := lw_g (lw_at lw_m11 142 rfl) rfl
theorem q2835 : (Jvm.Cond.code ({ cls := "ModulaWorks$Text", name := "reserved", desc := "(II)I" } : Jvm.MethodName) prog_15_method_14_code (6 : Nat) (Option.some Jvm.ClassFile.FieldType.int)) ∈ lw_all := lw_g (lw_at lw_m11 151 rfl) rfl
theorem q2849 : (Jvm.Cond.code ({ cls := "ModulaWorks$Text", name := "number", desc := "(I)I" } : Jvm.MethodName) prog_15_method_15_code (4 : Nat) (Option.some Jvm.ClassFile.FieldType.int)) ∈ lw_all := lw_g (lw_at lw_m11 165 rfl) rfl
theorem q2852 : (Jvm.Cond.code ({ cls := "ModulaWorks$Text", name := "isHigh", desc := "(I)Z" } : Jvm.MethodName) prog_15_method_6_code (1 : Nat) (Option.some Jvm.ClassFile.FieldType.boolean)) ∈ lw_all := lw_g (lw_at lw_m11 168 rfl) rfl
theorem q2856 : (Jvm.Cond.code ({ cls := "ModulaWorks$Text", name := "value", desc := "(IIIII)I" } : Jvm.MethodName) prog_15_method_16_code (10 : Nat) (Option.some Jvm.ClassFile.FieldType.int)) ∈ lw_all := lw_g (lw_at lw_m11 172 rfl) rfl
theorem q2866 : (Jvm.Cond.code ({ cls := "ModulaWorks$Text", name := "sign", desc := "(I)I" } : Jvm.MethodName) prog_15_method_19_code (6 : Nat) (Option.some Jvm.ClassFile.FieldType.int)) ∈ lw_all := lw_g (lw_at lw_m11 182 rfl) rfl
theorem q2869 : (Jvm.Cond.code ({ cls := "ModulaWorks$Text", name := "signOf", desc := "(I)I" } : Jvm.MethodName) prog_15_method_18_code (2 : Nat) (Option.some Jvm.ClassFile.FieldType.int)) ∈ lw_all := lw_g (lw_at lw_m11 185 rfl) rfl
theorem q514 : (Jvm.Cond.code ({ cls := "ModulaWorks$Form", name := "<init>", desc := "()V" } : Jvm.MethodName) prog_3_method_1_code (1 : Nat) (Option.none : Option Jvm.ClassFile.FieldType)) ∈ lw_all := lw_g (lw_at lw_m1 230 rfl) rfl
theorem q2874 : (Jvm.Cond.codeWith ({ cls := "ModulaWorks$Form", name := "isUnit", desc := "(LModulaWorks$Text;)Z" } : Jvm.MethodName) prog_3_method_7_code (3 : Nat) (Option.some Jvm.ClassFile.FieldType.boolean) [((15 : Nat), (20 : Nat), (21 : Nat), (9 : Nat))]) ∈ lw_all := lw_g (lw_at lw_m11 190 rfl) rfl
theorem q2878 : (Jvm.Cond.code ({ cls := "ModulaWorks$Form", name := "unit", desc := "()V" } : Jvm.MethodName) prog_3_method_8_code (3 : Nat) (Option.none : Option Jvm.ClassFile.FieldType)) ∈ lw_all := lw_g (lw_at lw_m11 194 rfl) rfl
theorem q2882 : (Jvm.Cond.code ({ cls := "ModulaWorks$Form", name := "takes", desc := "(I)Z" } : Jvm.MethodName) prog_3_method_4_code (2 : Nat) (Option.some Jvm.ClassFile.FieldType.boolean)) ∈ lw_all := lw_g (lw_at lw_m11 198 rfl) rfl
theorem q2886 : (Jvm.Cond.code ({ cls := "ModulaWorks$Form", name := "is", desc := "(I)Z" } : Jvm.MethodName) prog_3_method_3_code (2 : Nat) (Option.some Jvm.ClassFile.FieldType.boolean)) ∈ lw_all := lw_g (lw_at lw_m11 202 rfl) rfl
theorem q2890 : (Jvm.Cond.code ({ cls := "ModulaWorks$Form", name := "opens", desc := "(I)V" } : Jvm.MethodName) prog_3_method_6_code (2 : Nat) (Option.none : Option Jvm.ClassFile.FieldType)) ∈ lw_all := lw_g (lw_at lw_m11 206 rfl) rfl
theorem q2894 : (Jvm.Cond.code ({ cls := "ModulaWorks$Form", name := "must", desc := "(I)V" } : Jvm.MethodName) prog_3_method_5_code (2 : Nat) (Option.none : Option Jvm.ClassFile.FieldType)) ∈ lw_all := lw_g (lw_at lw_m11 210 rfl) rfl
theorem q2898 : (Jvm.Cond.code ({ cls := "ModulaWorks$Form", name := "imports", desc := "()V" } : Jvm.MethodName) prog_3_method_9_code (1 : Nat) (Option.none : Option Jvm.ClassFile.FieldType)) ∈ lw_all := lw_g (lw_at lw_m11 214 rfl) rfl
theorem q2902 : (Jvm.Cond.code ({ cls := "ModulaWorks$Form", name := "names", desc := "()V" } : Jvm.MethodName) prog_3_method_10_code (1 : Nat) (Option.none : Option Jvm.ClassFile.FieldType)) ∈ lw_all := lw_g (lw_at lw_m11 218 rfl) rfl
theorem q2914 : (Jvm.Cond.code ({ cls := "ModulaWorks$Form", name := "expression", desc := "()V" } : Jvm.MethodName) prog_3_method_33_code (2 : Nat) (Option.none : Option Jvm.ClassFile.FieldType)) ∈ lw_all := lw_g (lw_at lw_m11 230 rfl) rfl
theorem q2918 : (Jvm.Cond.code ({ cls := "ModulaWorks$Form", name := "sum", desc := "()V" } : Jvm.MethodName) prog_3_method_34_code (2 : Nat) (Option.none : Option Jvm.ClassFile.FieldType)) ∈ lw_all := lw_g (lw_at lw_m11 234 rfl) rfl
theorem q2922 : (Jvm.Cond.code ({ cls := "ModulaWorks$Form", name := "factor", desc := "()V" } : Jvm.MethodName) prog_3_method_35_code (1 : Nat) (Option.none : Option Jvm.ClassFile.FieldType)) ∈ lw_all := lw_g (lw_at lw_m11 238 rfl) rfl
theorem q2926 : (Jvm.Cond.code ({ cls := "ModulaWorks$Form", name := "now", desc := "()I" } : Jvm.MethodName) prog_3_method_2_code (1 : Nat) (Option.some Jvm.ClassFile.FieldType.int)) ∈ lw_all := lw_g (lw_at lw_m12 2 rfl) rfl
theorem q2938 : (Jvm.Cond.code ({ cls := "ModulaWorks$Form", name := "designator", desc := "()V" } : Jvm.MethodName) prog_3_method_40_code (1 : Nat) (Option.none : Option Jvm.ClassFile.FieldType)) ∈ lw_all := lw_g (lw_at lw_m12 14 rfl) rfl
theorem q2942 : (Jvm.Cond.code ({ cls := "ModulaWorks$Form", name := "list", desc := "()V" } : Jvm.MethodName) prog_3_method_39_code (1 : Nat) (Option.none : Option Jvm.ClassFile.FieldType)) ∈ lw_all := lw_g (lw_at lw_m12 18 rfl) rfl
theorem q2946 : (Jvm.Cond.code ({ cls := "ModulaWorks$Form", name := "actuals", desc := "()V" } : Jvm.MethodName) prog_3_method_38_code (1 : Nat) (Option.none : Option Jvm.ClassFile.FieldType)) ∈ lw_all := lw_g (lw_at lw_m12 22 rfl) rfl
theorem q2950 : (Jvm.Cond.code ({ cls := "ModulaWorks$Form", name := "types", desc := "(Z)V" } : Jvm.MethodName) prog_3_method_15_code (2 : Nat) (Option.none : Option Jvm.ClassFile.FieldType)) ∈ lw_all := lw_g (lw_at lw_m12 26 rfl) rfl
theorem q2954 : (Jvm.Cond.code ({ cls := "ModulaWorks$Form", name := "type", desc := "()V" } : Jvm.MethodName) prog_3_method_22_code (1 : Nat) (Option.none : Option Jvm.ClassFile.FieldType)) ∈ lw_all := lw_g (lw_at lw_m12 30 rfl) rfl
theorem q2958 : (Jvm.Cond.code ({ cls := "ModulaWorks$Form", name := "simple", desc := "()V" } : Jvm.MethodName) prog_3_method_24_code (2 : Nat) (Option.none : Option Jvm.ClassFile.FieldType)) ∈ lw_all := lw_g (lw_at lw_m12 34 rfl) rfl
theorem q2962 : (Jvm.Cond.code ({ cls := "ModulaWorks$Form", name := "known", desc := "()V" } : Jvm.MethodName) prog_3_method_11_code (1 : Nat) (Option.none : Option Jvm.ClassFile.FieldType)) ∈ lw_all := lw_g (lw_at lw_m12 38 rfl) rfl
theorem q2974 : (Jvm.Cond.code ({ cls := "ModulaWorks$Form", name := "variables", desc := "()V" } : Jvm.MethodName) prog_3_method_16_code (1 : Nat) (Option.none : Option Jvm.ClassFile.FieldType)) ∈ lw_all := lw_g (lw_at lw_m12 50 rfl) rfl
theorem q2986 : (Jvm.Cond.code ({ cls := "ModulaWorks$Form", name := "block", desc := "()V" } : Jvm.MethodName) prog_3_method_17_code (1 : Nat) (Option.none : Option Jvm.ClassFile.FieldType)) ∈ lw_all := lw_g (lw_at lw_m12 62 rfl) rfl
theorem q2998 : (Jvm.Cond.code ({ cls := "ModulaWorks$Form", name := "statements", desc := "()V" } : Jvm.MethodName) prog_3_method_25_code (1 : Nat) (Option.none : Option Jvm.ClassFile.FieldType)) ∈ lw_all := lw_g (lw_at lw_m12 74 rfl) rfl
theorem q3002 : (Jvm.Cond.code ({ cls := "ModulaWorks$Form", name := "statement", desc := "()V" } : Jvm.MethodName) prog_3_method_26_code (1 : Nat) (Option.none : Option Jvm.ClassFile.FieldType)) ∈ lw_all := lw_g (lw_at lw_m12 78 rfl) rfl
theorem q3006 : (Jvm.Cond.code ({ cls := "ModulaWorks$Form", name := "chosen", desc := "()V" } : Jvm.MethodName) prog_3_method_29_code (1 : Nat) (Option.none : Option Jvm.ClassFile.FieldType)) ∈ lw_all := lw_g (lw_at lw_m12 82 rfl) rfl
theorem q3010 : (Jvm.Cond.code ({ cls := "ModulaWorks$Form", name := "ends", desc := "()V" } : Jvm.MethodName) prog_3_method_30_code (1 : Nat) (Option.none : Option Jvm.ClassFile.FieldType)) ∈ lw_all := lw_g (lw_at lw_m12 86 rfl) rfl
theorem q3022 : (Jvm.Cond.code ({ cls := "ModulaWorks$Form", name := "closes", desc := "()V" } : Jvm.MethodName) prog_3_method_31_code (1 : Nat) (Option.none : Option Jvm.ClassFile.FieldType)) ∈ lw_all := lw_g (lw_at lw_m12 98 rfl) rfl
theorem q3026 : (Jvm.Cond.code ({ cls := "ModulaWorks$Form", name := "others", desc := "()V" } : Jvm.MethodName) prog_3_method_27_code (2 : Nat) (Option.none : Option Jvm.ClassFile.FieldType)) ∈ lw_all := lw_g (lw_at lw_m12 102 rfl) rfl
theorem q557 : (Jvm.Cond.code ({ cls := "ModulaWorks$Wrong", name := "<init>", desc := "()V" } : Jvm.MethodName) prog_19_method_1_code (1 : Nat) (Option.none : Option Jvm.ClassFile.FieldType)) ∈ lw_all := lw_g (lw_at lw_m2 33 rfl) rfl
theorem q598 : (Jvm.Cond.code ({ cls := "ModulaWorks$Sense", name := "<init>", desc := "(LModulaWorks$Shelf;)V" } : Jvm.MethodName) prog_12_method_1_code (2 : Nat) (Option.none : Option Jvm.ClassFile.FieldType)) ∈ lw_all := lw_g (lw_at lw_m2 74 rfl) rfl
theorem q1370 : (Jvm.Cond.codeWith ({ cls := "ModulaWorks$Sense", name := "layAll", desc := "([LModulaWorks$Unit;I[I)I" } : Jvm.MethodName) prog_12_method_19_code (6 : Nat) (Option.some Jvm.ClassFile.FieldType.int) [((4 : Nat), (45 : Nat), (48 : Nat), (9 : Nat))]) ∈ lw_all := lw_g (lw_at lw_m5 126 rfl) rfl
theorem q1374 : (Jvm.Cond.code ({ cls := "ModulaWorks$Sense", name := "begin", desc := "()V" } : Jvm.MethodName) prog_12_method_16_code (5 : Nat) (Option.none : Option Jvm.ClassFile.FieldType)) ∈ lw_all := lw_g (lw_at lw_m5 130 rfl) rfl
theorem q1424 : (Jvm.Cond.code ({ cls := "ModulaWorks$Sense", name := "basic", desc := "(IIII)LModulaWorks$Type;" } : Jvm.MethodName) prog_12_method_14_code (6 : Nat) (Option.some (Jvm.ClassFile.FieldType.object "ModulaWorks$Type"))) ∈ lw_all := lw_g (lw_at lw_m5 180 rfl) rfl
theorem q1493 : (Jvm.Cond.code ({ cls := "ModulaWorks$Sense", name := "named", desc := "(Ljava/lang/String;ILModulaWorks$Type;I)LModulaWorks$Sym;" } : Jvm.MethodName) prog_12_method_15_code (6 : Nat) (Option.some (Jvm.ClassFile.FieldType.object "ModulaWorks$Sym"))) ∈ lw_all := lw_g (lw_at lw_m6 9 rfl) rfl
theorem q1632 : (Jvm.Cond.code ({ cls := "ModulaWorks$Sense", name := "systemModule", desc := "(Ljava/lang/String;)LModulaWorks$Sym;" } : Jvm.MethodName) prog_12_method_17_code (3 : Nat) (Option.some (Jvm.ClassFile.FieldType.object "ModulaWorks$Sym"))) ∈ lw_all := lw_g (lw_at lw_m6 148 rfl) rfl
theorem q1640 : (Jvm.Cond.code ({ cls := "ModulaWorks$Sense", name := "implement", desc := "(LModulaWorks$Unit;LModulaWorks$Sym;)V" } : Jvm.MethodName) prog_12_method_25_code (6 : Nat) (Option.none : Option Jvm.ClassFile.FieldType)) ∈ lw_all := lw_g (lw_at lw_m6 156 rfl) rfl
theorem q1644 : (Jvm.Cond.code ({ cls := "ModulaWorks$Sense", name := "item", desc := "()V" } : Jvm.MethodName) prog_12_method_7_code (1 : Nat) (Option.none : Option Jvm.ClassFile.FieldType)) ∈ lw_all := lw_g (lw_at lw_m6 160 rfl) rfl
theorem q1648 : (Jvm.Cond.code ({ cls := "ModulaWorks$Sense", name := "a", desc := "()J" } : Jvm.MethodName) prog_12_method_5_code (1 : Nat) (Option.some Jvm.ClassFile.FieldType.long)) ∈ lw_all := lw_g (lw_at lw_m6 164 rfl) rfl
theorem q1652 : (Jvm.Cond.code ({ cls := "ModulaWorks$Sense", name := "b", desc := "()J" } : Jvm.MethodName) prog_12_method_6_code (1 : Nat) (Option.some Jvm.ClassFile.FieldType.long)) ∈ lw_all := lw_g (lw_at lw_m6 168 rfl) rfl
theorem q1657 : (Jvm.Cond.code ({ cls := "ModulaWorks$Sense", name := "need", desc := "(Z)V" } : Jvm.MethodName) prog_12_method_8_code (2 : Nat) (Option.none : Option Jvm.ClassFile.FieldType)) ∈ lw_all := lw_g (lw_at lw_m6 173 rfl) rfl
theorem q1675 : (Jvm.Cond.code ({ cls := "ModulaWorks$Sense", name := "imports", desc := "(LModulaWorks$Scope;)V" } : Jvm.MethodName) prog_12_method_29_code (4 : Nat) (Option.none : Option Jvm.ClassFile.FieldType)) ∈ lw_all := lw_g (lw_at lw_m6 191 rfl) rfl
theorem q1679 : (Jvm.Cond.code ({ cls := "ModulaWorks$Sense", name := "is", desc := "(I)Z" } : Jvm.MethodName) prog_12_method_3_code (2 : Nat) (Option.some Jvm.ClassFile.FieldType.boolean)) ∈ lw_all := lw_g (lw_at lw_m6 195 rfl) rfl
theorem q1683 : (Jvm.Cond.code ({ cls := "ModulaWorks$Sense", name := "takes", desc := "(I)Z" } : Jvm.MethodName) prog_12_method_4_code (2 : Nat) (Option.some Jvm.ClassFile.FieldType.boolean)) ∈ lw_all := lw_g (lw_at lw_m6 199 rfl) rfl
theorem q1687 : (Jvm.Cond.code ({ cls := "ModulaWorks$Sense", name := "importable", desc := "(LModulaWorks$Scope;)LModulaWorks$Sym;" } : Jvm.MethodName) prog_12_method_30_code (5 : Nat) (Option.some (Jvm.ClassFile.FieldType.object "ModulaWorks$Sym"))) ∈ lw_all := lw_g (lw_at lw_m6 203 rfl) rfl
theorem q1691 : (Jvm.Cond.code ({ cls := "ModulaWorks$Sense", name := "find", desc := "(JJ)LModulaWorks$Sym;" } : Jvm.MethodName) prog_12_method_10_code (7 : Nat) (Option.some (Jvm.ClassFile.FieldType.object "ModulaWorks$Sym"))) ∈ lw_all := lw_g (lw_at lw_m6 207 rfl) rfl
theorem q1704 : (Jvm.Cond.code ({ cls := "ModulaWorks$Sense", name := "alias", desc := "(LModulaWorks$Scope;LModulaWorks$Sym;Z)V" } : Jvm.MethodName) prog_12_method_12_code (7 : Nat) (Option.none : Option Jvm.ClassFile.FieldType)) ∈ lw_all := lw_g (lw_at lw_m6 220 rfl) rfl
theorem q1708 : (Jvm.Cond.code ({ cls := "ModulaWorks$Sense", name := "one", desc := "(LModulaWorks$Scope;JJLModulaWorks$Sym;Z)V" } : Jvm.MethodName) prog_12_method_13_code (9 : Nat) (Option.none : Option Jvm.ClassFile.FieldType)) ∈ lw_all := lw_g (lw_at lw_m6 224 rfl) rfl
theorem q1720 : (Jvm.Cond.code ({ cls := "ModulaWorks$Sense", name := "constant", desc := "()LModulaWorks$Item;" } : Jvm.MethodName) prog_12_method_78_code (2 : Nat) (Option.some (Jvm.ClassFile.FieldType.object "ModulaWorks$Item"))) ∈ lw_all := lw_g (lw_at lw_m6 236 rfl) rfl
theorem q1724 : (Jvm.Cond.code ({ cls := "ModulaWorks$Sense", name := "expression", desc := "()LModulaWorks$Item;" } : Jvm.MethodName) prog_12_method_83_code (7 : Nat) (Option.some (Jvm.ClassFile.FieldType.object "ModulaWorks$Item"))) ∈ lw_all := lw_g (lw_at lw_m7 0 rfl) rfl
theorem q1728 : (Jvm.Cond.code ({ cls := "ModulaWorks$Sense", name := "sum", desc := "()LModulaWorks$Item;" } : Jvm.MethodName) prog_12_method_91_code (5 : Nat) (Option.some (Jvm.ClassFile.FieldType.object "ModulaWorks$Item"))) ∈ lw_all := lw_g (lw_at lw_m7 4 rfl) rfl
theorem q1732 : (Jvm.Cond.code ({ cls := "ModulaWorks$Sense", name := "term", desc := "()LModulaWorks$Item;" } : Jvm.MethodName) prog_12_method_93_code (3 : Nat) (Option.some (Jvm.ClassFile.FieldType.object "ModulaWorks$Item"))) ∈ lw_all := lw_g (lw_at lw_m7 8 rfl) rfl
theorem q1736 : (Jvm.Cond.code ({ cls := "ModulaWorks$Sense", name := "factor", desc := "()LModulaWorks$Item;" } : Jvm.MethodName) prog_12_method_102_code (3 : Nat) (Option.some (Jvm.ClassFile.FieldType.object "ModulaWorks$Item"))) ∈ lw_all := lw_g (lw_at lw_m7 12 rfl) rfl
theorem q1740 : (Jvm.Cond.code ({ cls := "ModulaWorks$Sense", name := "now", desc := "()I" } : Jvm.MethodName) prog_12_method_2_code (1 : Nat) (Option.some Jvm.ClassFile.FieldType.int)) ∈ lw_all := lw_g (lw_at lw_m7 16 rfl) rfl
theorem q1744 : (Jvm.Cond.code ({ cls := "ModulaWorks$Sense", name := "make", desc := "(ILModulaWorks$Type;I)LModulaWorks$Item;" } : Jvm.MethodName) prog_12_method_66_code (5 : Nat) (Option.some (Jvm.ClassFile.FieldType.object "ModulaWorks$Item"))) ∈ lw_all := lw_g (lw_at lw_m7 20 rfl) rfl
theorem q1780 : (Jvm.Cond.code ({ cls := "ModulaWorks$Sense", name := "push", desc := "()V" } : Jvm.MethodName) prog_12_method_75_code (1 : Nat) (Option.none : Option Jvm.ClassFile.FieldType)) ∈ lw_all := lw_g (lw_at lw_m7 56 rfl) rfl
theorem q1793 : (Jvm.Cond.code ({ cls := "ModulaWorks$Sense", name := "letter", desc := "(LModulaWorks$Item;)LModulaWorks$Item;" } : Jvm.MethodName) prog_12_method_79_code (2 : Nat) (Option.some (Jvm.ClassFile.FieldType.object "ModulaWorks$Item"))) ∈ lw_all := lw_g (lw_at lw_m7 69 rfl) rfl
theorem q1816 : (Jvm.Cond.code ({ cls := "ModulaWorks$Sense", name := "load", desc := "(LModulaWorks$Item;)V" } : Jvm.MethodName) prog_12_method_72_code (3 : Nat) (Option.none : Option Jvm.ClassFile.FieldType)) ∈ lw_all := lw_g (lw_at lw_m7 92 rfl) rfl
theorem q1829 : (Jvm.Cond.code ({ cls := "ModulaWorks$Sense", name := "emitIndexed", desc := "(II)V" } : Jvm.MethodName) prog_12_method_71_code (3 : Nat) (Option.none : Option Jvm.ClassFile.FieldType)) ∈ lw_all := lw_g (lw_at lw_m7 105 rfl) rfl
theorem q1846 : (Jvm.Cond.code ({ cls := "ModulaWorks$Sense", name := "call", desc := "(I)V" } : Jvm.MethodName) prog_12_method_67_code (2 : Nat) (Option.none : Option Jvm.ClassFile.FieldType)) ∈ lw_all := lw_g (lw_at lw_m7 122 rfl) rfl
theorem q1855 : (Jvm.Cond.code ({ cls := "ModulaWorks$Sense", name := "emitRow", desc := "(J)V" } : Jvm.MethodName) prog_12_method_90_code (4 : Nat) (Option.none : Option Jvm.ClassFile.FieldType)) ∈ lw_all := lw_g (lw_at lw_m7 131 rfl) rfl
theorem q1860 : (Jvm.Cond.code ({ cls := "ModulaWorks$Sense", name := "weigh", desc := "(LModulaWorks$Item;I)V" } : Jvm.MethodName) prog_12_method_81_code (3 : Nat) (Option.none : Option Jvm.ClassFile.FieldType)) ∈ lw_all := lw_g (lw_at lw_m7 136 rfl) rfl
theorem q1872 : (Jvm.Cond.code ({ cls := "ModulaWorks$Sense", name := "named", desc := "()LModulaWorks$Item;" } : Jvm.MethodName) prog_12_method_104_code (6 : Nat) (Option.some (Jvm.ClassFile.FieldType.object "ModulaWorks$Item"))) ∈ lw_all := lw_g (lw_at lw_m7 148 rfl) rfl
theorem q1876 : (Jvm.Cond.code ({ cls := "ModulaWorks$Sense", name := "known", desc := "()LModulaWorks$Sym;" } : Jvm.MethodName) prog_12_method_37_code (2 : Nat) (Option.some (Jvm.ClassFile.FieldType.object "ModulaWorks$Sym"))) ∈ lw_all := lw_g (lw_at lw_m7 152 rfl) rfl
theorem q1880 : (Jvm.Cond.code ({ cls := "ModulaWorks$Sense", name := "alone", desc := "(Z)V" } : Jvm.MethodName) prog_12_method_105_code (2 : Nat) (Option.none : Option Jvm.ClassFile.FieldType)) ∈ lw_all := lw_g (lw_at lw_m7 156 rfl) rfl
theorem q1892 : (Jvm.Cond.code ({ cls := "ModulaWorks$Sense", name := "withOf", desc := "(JJ)LModulaWorks$Scope;" } : Jvm.MethodName) prog_12_method_107_code (6 : Nat) (Option.some (Jvm.ClassFile.FieldType.object "ModulaWorks$Scope"))) ∈ lw_all := lw_g (lw_at lw_m7 168 rfl) rfl
theorem q1896 : (Jvm.Cond.code ({ cls := "ModulaWorks$Sense", name := "variable", desc := "()LModulaWorks$Item;" } : Jvm.MethodName) prog_12_method_106_code (4 : Nat) (Option.some (Jvm.ClassFile.FieldType.object "ModulaWorks$Item"))) ∈ lw_all := lw_g (lw_at lw_m7 172 rfl) rfl
theorem q1900 : (Jvm.Cond.code ({ cls := "ModulaWorks$Sense", name := "fieldInWith", desc := "()LModulaWorks$Sym;" } : Jvm.MethodName) prog_12_method_108_code (2 : Nat) (Option.some (Jvm.ClassFile.FieldType.object "ModulaWorks$Sym"))) ∈ lw_all := lw_g (lw_at lw_m7 176 rfl) rfl
theorem q1919 : (Jvm.Cond.code ({ cls := "ModulaWorks$Sense", name := "simple", desc := "(LModulaWorks$Sym;)LModulaWorks$Item;" } : Jvm.MethodName) prog_12_method_113_code (4 : Nat) (Option.some (Jvm.ClassFile.FieldType.object "ModulaWorks$Item"))) ∈ lw_all := lw_g (lw_at lw_m7 195 rfl) rfl
theorem q1940 : (Jvm.Cond.code ({ cls := "ModulaWorks$Sense", name := "indexed", desc := "(LModulaWorks$Item;)LModulaWorks$Item;" } : Jvm.MethodName) prog_12_method_115_code (8 : Nat) (Option.some (Jvm.ClassFile.FieldType.object "ModulaWorks$Item"))) ∈ lw_all := lw_g (lw_at lw_m7 216 rfl) rfl
theorem q1961 : (Jvm.Cond.code ({ cls := "ModulaWorks$Sense", name := "times", desc := "(I)V" } : Jvm.MethodName) prog_12_method_118_code (3 : Nat) (Option.none : Option Jvm.ClassFile.FieldType)) ∈ lw_all := lw_g (lw_at lw_m7 237 rfl) rfl
theorem q1965 : (Jvm.Cond.code ({ cls := "ModulaWorks$Sense", name := "plainIndexed", desc := "(LModulaWorks$Item;LModulaWorks$Item;LModulaWorks$Type;Z)LModulaWorks$Item;" } : Jvm.MethodName) prog_12_method_116_code (6 : Nat) (Option.some (Jvm.ClassFile.FieldType.object "ModulaWorks$Item"))) ∈ lw_all := lw_g (lw_at lw_m8 1 rfl) rfl
theorem q1988 : (Jvm.Cond.code ({ cls := "ModulaWorks$Sense", name := "leastOf", desc := "(LModulaWorks$Item;)I" } : Jvm.MethodName) prog_12_method_130_code (1 : Nat) (Option.some Jvm.ClassFile.FieldType.int)) ∈ lw_all := lw_g (lw_at lw_m8 24 rfl) rfl
theorem q1991 : (Jvm.Cond.code ({ cls := "ModulaWorks$Sense", name := "isVariable", desc := "(LModulaWorks$Item;)Z" } : Jvm.MethodName) prog_12_method_129_code (1 : Nat) (Option.some Jvm.ClassFile.FieldType.boolean)) ∈ lw_all := lw_g (lw_at lw_m8 27 rfl) rfl
theorem q1995 : (Jvm.Cond.code ({ cls := "ModulaWorks$Sense", name := "mostOf", desc := "(LModulaWorks$Item;)I" } : Jvm.MethodName) prog_12_method_131_code (1 : Nat) (Option.some Jvm.ClassFile.FieldType.int)) ∈ lw_all := lw_g (lw_at lw_m8 31 rfl) rfl
theorem q1999 : (Jvm.Cond.code ({ cls := "ModulaWorks$Sense", name := "check", desc := "(IILModulaWorks$Type;)V" } : Jvm.MethodName) prog_12_method_132_code (5 : Nat) (Option.none : Option Jvm.ClassFile.FieldType)) ∈ lw_all := lw_g (lw_at lw_m8 35 rfl) rfl
theorem q2051 : (Jvm.Cond.code ({ cls := "ModulaWorks$Sense", name := "fit", desc := "(LModulaWorks$Item;LModulaWorks$Type;)V" } : Jvm.MethodName) prog_12_method_126_code (4 : Nat) (Option.none : Option Jvm.ClassFile.FieldType)) ∈ lw_all := lw_g (lw_at lw_m8 87 rfl) rfl
theorem q2055 : (Jvm.Cond.code ({ cls := "ModulaWorks$Sense", name := "letterFor", desc := "(LModulaWorks$Item;LModulaWorks$Type;)LModulaWorks$Item;" } : Jvm.MethodName) prog_12_method_127_code (3 : Nat) (Option.some (Jvm.ClassFile.FieldType.object "ModulaWorks$Item"))) ∈ lw_all := lw_g (lw_at lw_m8 91 rfl) rfl
theorem q2062 : (Jvm.Cond.code ({ cls := "ModulaWorks$Sense", name := "fitOrdinal", desc := "(LModulaWorks$Item;LModulaWorks$Type;)V" } : Jvm.MethodName) prog_12_method_128_code (6 : Nat) (Option.none : Option Jvm.ClassFile.FieldType)) ∈ lw_all := lw_g (lw_at lw_m8 98 rfl) rfl
theorem q2087 : (Jvm.Cond.code ({ cls := "ModulaWorks$Sense", name := "jumpIf", desc := "(LModulaWorks$Item;Z)I" } : Jvm.MethodName) prog_12_method_95_code (4 : Nat) (Option.some Jvm.ClassFile.FieldType.int)) ∈ lw_all := lw_g (lw_at lw_m8 123 rfl) rfl
theorem q2103 : (Jvm.Cond.code ({ cls := "ModulaWorks$Sense", name := "reckoned", desc := "(ILModulaWorks$Item;Z)LModulaWorks$Item;" } : Jvm.MethodName) prog_12_method_96_code (12 : Nat) (Option.some (Jvm.ClassFile.FieldType.object "ModulaWorks$Item"))) ∈ lw_all := lw_g (lw_at lw_m8 139 rfl) rfl
theorem q2107 : (Jvm.Cond.code ({ cls := "ModulaWorks$Sense", name := "hold", desc := "(LModulaWorks$Item;)V" } : Jvm.MethodName) prog_12_method_76_code (2 : Nat) (Option.none : Option Jvm.ClassFile.FieldType)) ∈ lw_all := lw_g (lw_at lw_m8 143 rfl) rfl
theorem q2111 : (Jvm.Cond.code ({ cls := "ModulaWorks$Sense", name := "common", desc := "(LModulaWorks$Item;LModulaWorks$Item;)LModulaWorks$Type;" } : Jvm.MethodName) prog_12_method_84_code (4 : Nat) (Option.some (Jvm.ClassFile.FieldType.object "ModulaWorks$Type"))) ∈ lw_all := lw_g (lw_at lw_m8 147 rfl) rfl
theorem q2130 : (Jvm.Cond.code ({ cls := "ModulaWorks$Sense", name := "both", desc := "(LModulaWorks$Item;LModulaWorks$Item;I)V" } : Jvm.MethodName) prog_12_method_77_code (5 : Nat) (Option.none : Option Jvm.ClassFile.FieldType)) ∈ lw_all := lw_g (lw_at lw_m8 166 rfl) rfl
theorem q2134 : (Jvm.Cond.code ({ cls := "ModulaWorks$Sense", name := "loadBeside", desc := "(LModulaWorks$Item;)V" } : Jvm.MethodName) prog_12_method_74_code (3 : Nat) (Option.none : Option Jvm.ClassFile.FieldType)) ∈ lw_all := lw_g (lw_at lw_m8 170 rfl) rfl
theorem q2143 : (Jvm.Cond.code ({ cls := "ModulaWorks$Sense", name := "signedOf", desc := "(I)V" } : Jvm.MethodName) prog_12_method_101_code (2 : Nat) (Option.none : Option Jvm.ClassFile.FieldType)) ∈ lw_all := lw_g (lw_at lw_m8 179 rfl) rfl
theorem q2157 : (Jvm.Cond.code ({ cls := "ModulaWorks$Sense", name := "related", desc := "(ILModulaWorks$Item;LModulaWorks$Item;I)LModulaWorks$Item;" } : Jvm.MethodName) prog_12_method_86_code (9 : Nat) (Option.some (Jvm.ClassFile.FieldType.object "ModulaWorks$Item"))) ∈ lw_all := lw_g (lw_at lw_m8 193 rfl) rfl
theorem q2173 : (Jvm.Cond.code ({ cls := "ModulaWorks$Sense", name := "declare", desc := "(JJILModulaWorks$Type;I)LModulaWorks$Sym;" } : Jvm.MethodName) prog_12_method_11_code (9 : Nat) (Option.some (Jvm.ClassFile.FieldType.object "ModulaWorks$Sym"))) ∈ lw_all := lw_g (lw_at lw_m8 209 rfl) rfl
theorem q2181 : (Jvm.Cond.code ({ cls := "ModulaWorks$Sense", name := "type", desc := "()LModulaWorks$Type;" } : Jvm.MethodName) prog_12_method_38_code (1 : Nat) (Option.some (Jvm.ClassFile.FieldType.object "ModulaWorks$Type"))) ∈ lw_all := lw_g (lw_at lw_m8 217 rfl) rfl
theorem q2185 : (Jvm.Cond.code ({ cls := "ModulaWorks$Sense", name := "array", desc := "()LModulaWorks$Type;" } : Jvm.MethodName) prog_12_method_39_code (6 : Nat) (Option.some (Jvm.ClassFile.FieldType.object "ModulaWorks$Type"))) ∈ lw_all := lw_g (lw_at lw_m8 221 rfl) rfl
theorem q2189 : (Jvm.Cond.code ({ cls := "ModulaWorks$Sense", name := "simple", desc := "()LModulaWorks$Type;" } : Jvm.MethodName) prog_12_method_50_code (7 : Nat) (Option.some (Jvm.ClassFile.FieldType.object "ModulaWorks$Type"))) ∈ lw_all := lw_g (lw_at lw_m8 225 rfl) rfl
theorem q2197 : (Jvm.Cond.code ({ cls := "ModulaWorks$Sense", name := "typeNamed", desc := "()LModulaWorks$Type;" } : Jvm.MethodName) prog_12_method_36_code (2 : Nat) (Option.some (Jvm.ClassFile.FieldType.object "ModulaWorks$Type"))) ∈ lw_all := lw_g (lw_at lw_m8 233 rfl) rfl
theorem q2200 : (Jvm.Cond.code ({ cls := "ModulaWorks$Sense", name := "belongs", desc := "(LModulaWorks$Type;ILModulaWorks$Type;)Z" } : Jvm.MethodName) prog_12_method_51_code (3 : Nat) (Option.some Jvm.ClassFile.FieldType.boolean)) ∈ lw_all := lw_g (lw_at lw_m8 236 rfl) rfl
theorem q2256 : (Jvm.Cond.code ({ cls := "ModulaWorks$Sense", name := "variables", desc := "()V" } : Jvm.MethodName) prog_12_method_53_code (4 : Nat) (Option.none : Option Jvm.ClassFile.FieldType)) ∈ lw_all := lw_g (lw_at lw_m9 52 rfl) rfl
theorem q2260 : (Jvm.Cond.code ({ cls := "ModulaWorks$Sense", name := "variable", desc := "(JJLModulaWorks$Type;)V" } : Jvm.MethodName) prog_12_method_54_code (7 : Nat) (Option.none : Option Jvm.ClassFile.FieldType)) ∈ lw_all := lw_g (lw_at lw_m9 56 rfl) rfl
theorem q2277 : (Jvm.Cond.code ({ cls := "ModulaWorks$Sense", name := "block", desc := "(LModulaWorks$Sym;)V" } : Jvm.MethodName) prog_12_method_61_code (4 : Nat) (Option.none : Option Jvm.ClassFile.FieldType)) ∈ lw_all := lw_g (lw_at lw_m9 73 rfl) rfl
theorem q2301 : (Jvm.Cond.code ({ cls := "ModulaWorks$Sense", name := "areThere", desc := "(LModulaWorks$Scope;)V" } : Jvm.MethodName) prog_12_method_28_code (3 : Nat) (Option.none : Option Jvm.ClassFile.FieldType)) ∈ lw_all := lw_g (lw_at lw_m9 97 rfl) rfl
theorem q2309 : (Jvm.Cond.code ({ cls := "ModulaWorks$Sense", name := "enter", desc := "(LModulaWorks$Sym;Z)V" } : Jvm.MethodName) prog_12_method_150_code (4 : Nat) (Option.none : Option Jvm.ClassFile.FieldType)) ∈ lw_all := lw_g (lw_at lw_m9 105 rfl) rfl
theorem q2325 : (Jvm.Cond.code ({ cls := "ModulaWorks$Sense", name := "statements", desc := "()V" } : Jvm.MethodName) prog_12_method_156_code (1 : Nat) (Option.none : Option Jvm.ClassFile.FieldType)) ∈ lw_all := lw_g (lw_at lw_m9 121 rfl) rfl
theorem q2329 : (Jvm.Cond.code ({ cls := "ModulaWorks$Sense", name := "statement", desc := "()V" } : Jvm.MethodName) prog_12_method_158_code (2 : Nat) (Option.none : Option Jvm.ClassFile.FieldType)) ∈ lw_all := lw_g (lw_at lw_m9 125 rfl) rfl
theorem q2333 : (Jvm.Cond.code ({ cls := "ModulaWorks$Sense", name := "step", desc := "(I)V" } : Jvm.MethodName) prog_12_method_157_code (2 : Nat) (Option.none : Option Jvm.ClassFile.FieldType)) ∈ lw_all := lw_g (lw_at lw_m9 129 rfl) rfl
theorem q2337 : (Jvm.Cond.code ({ cls := "ModulaWorks$Sense", name := "nameStatement", desc := "()V" } : Jvm.MethodName) prog_12_method_177_code (7 : Nat) (Option.none : Option Jvm.ClassFile.FieldType)) ∈ lw_all := lw_g (lw_at lw_m9 133 rfl) rfl
theorem q2341 : (Jvm.Cond.code ({ cls := "ModulaWorks$Sense", name := "standard", desc := "(I)V" } : Jvm.MethodName) prog_12_method_181_code (3 : Nat) (Option.none : Option Jvm.ClassFile.FieldType)) ∈ lw_all := lw_g (lw_at lw_m9 137 rfl) rfl
theorem q2345 : (Jvm.Cond.code ({ cls := "ModulaWorks$Sense", name := "leftBracket", desc := "()V" } : Jvm.MethodName) prog_12_method_180_code (1 : Nat) (Option.none : Option Jvm.ClassFile.FieldType)) ∈ lw_all := lw_g (lw_at lw_m9 141 rfl) rfl
theorem q2353 : (Jvm.Cond.code ({ cls := "ModulaWorks$Sense", name := "weighArgument", desc := "(LModulaWorks$Item;I)V" } : Jvm.MethodName) prog_12_method_182_code (3 : Nat) (Option.none : Option Jvm.ClassFile.FieldType)) ∈ lw_all := lw_g (lw_at lw_m9 149 rfl) rfl
theorem q2373 : (Jvm.Cond.code ({ cls := "ModulaWorks$Sense", name := "valueHeld", desc := "(LModulaWorks$Type;I)V" } : Jvm.MethodName) prog_12_method_184_code (4 : Nat) (Option.none : Option Jvm.ClassFile.FieldType)) ∈ lw_all := lw_g (lw_at lw_m9 169 rfl) rfl
theorem q2389 : (Jvm.Cond.code ({ cls := "ModulaWorks$Sense", name := "assign", desc := "(LModulaWorks$Item;)V" } : Jvm.MethodName) prog_12_method_178_code (5 : Nat) (Option.none : Option Jvm.ClassFile.FieldType)) ∈ lw_all := lw_g (lw_at lw_m9 185 rfl) rfl
theorem q2397 : (Jvm.Cond.code ({ cls := "ModulaWorks$Sense", name := "put", desc := "(LModulaWorks$Type;)V" } : Jvm.MethodName) prog_12_method_176_code (2 : Nat) (Option.none : Option Jvm.ClassFile.FieldType)) ∈ lw_all := lw_g (lw_at lw_m9 193 rfl) rfl
theorem q2401 : (Jvm.Cond.code ({ cls := "ModulaWorks$Sense", name := "choose", desc := "(I)V" } : Jvm.MethodName) prog_12_method_161_code (5 : Nat) (Option.none : Option Jvm.ClassFile.FieldType)) ∈ lw_all := lw_g (lw_at lw_m9 197 rfl) rfl
theorem q2405 : (Jvm.Cond.code ({ cls := "ModulaWorks$Sense", name := "condition", desc := "(Z)I" } : Jvm.MethodName) prog_12_method_160_code (3 : Nat) (Option.some Jvm.ClassFile.FieldType.int)) ∈ lw_all := lw_g (lw_at lw_m9 201 rfl) rfl
theorem q2421 : (Jvm.Cond.code ({ cls := "ModulaWorks$Sense", name := "whileStatement", desc := "(I)V" } : Jvm.MethodName) prog_12_method_162_code (4 : Nat) (Option.none : Option Jvm.ClassFile.FieldType)) ∈ lw_all := lw_g (lw_at lw_m9 217 rfl) rfl
theorem q2425 : (Jvm.Cond.code ({ cls := "ModulaWorks$Sense", name := "repeatStatement", desc := "(I)V" } : Jvm.MethodName) prog_12_method_163_code (4 : Nat) (Option.none : Option Jvm.ClassFile.FieldType)) ∈ lw_all := lw_g (lw_at lw_m9 221 rfl) rfl
theorem q2433 : (Jvm.Cond.code ({ cls := "ModulaWorks$Sense", name := "forStatement", desc := "(I)V" } : Jvm.MethodName) prog_12_method_170_code (10 : Nat) (Option.none : Option Jvm.ClassFile.FieldType)) ∈ lw_all := lw_g (lw_at lw_m9 229 rfl) rfl
theorem q2437 : (Jvm.Cond.code ({ cls := "ModulaWorks$Sense", name := "home", desc := "()LModulaWorks$Scope;" } : Jvm.MethodName) prog_12_method_169_code (2 : Nat) (Option.some (Jvm.ClassFile.FieldType.object "ModulaWorks$Scope"))) ∈ lw_all := lw_g (lw_at lw_m9 233 rfl) rfl
theorem q2441 : (Jvm.Cond.code ({ cls := "ModulaWorks$Sense", name := "store", desc := "(LModulaWorks$Sym;LModulaWorks$Type;)V" } : Jvm.MethodName) prog_12_method_175_code (4 : Nat) (Option.none : Option Jvm.ClassFile.FieldType)) ∈ lw_all := lw_g (lw_at lw_m9 237 rfl) rfl
theorem q2445 : (Jvm.Cond.code ({ cls := "ModulaWorks$Sense", name := "loadOf", desc := "(LModulaWorks$Sym;)V" } : Jvm.MethodName) prog_12_method_171_code (2 : Nat) (Option.none : Option Jvm.ClassFile.FieldType)) ∈ lw_all := lw_g (lw_at lw_m10 1 rfl) rfl
theorem q2449 : (Jvm.Cond.code ({ cls := "ModulaWorks$Sense", name := "bound", desc := "(I)V" } : Jvm.MethodName) prog_12_method_172_code (2 : Nat) (Option.none : Option Jvm.ClassFile.FieldType)) ∈ lw_all := lw_g (lw_at lw_m10 5 rfl) rfl
theorem q2453 : (Jvm.Cond.code ({ cls := "ModulaWorks$Sense", name := "order", desc := "(LModulaWorks$Type;)V" } : Jvm.MethodName) prog_12_method_173_code (2 : Nat) (Option.none : Option Jvm.ClassFile.FieldType)) ∈ lw_all := lw_g (lw_at lw_m10 9 rfl) rfl
theorem q2458 : (Jvm.Cond.code ({ cls := "ModulaWorks$Sense", name := "emitRow24", desc := "(I)V" } : Jvm.MethodName) prog_12_method_174_code (3 : Nat) (Option.none : Option Jvm.ClassFile.FieldType)) ∈ lw_all := lw_g (lw_at lw_m10 14 rfl) rfl
theorem q2470 : (Jvm.Cond.code ({ cls := "ModulaWorks$Sense", name := "leaveNow", desc := "(LModulaWorks$Sym;Z)V" } : Jvm.MethodName) prog_12_method_155_code (4 : Nat) (Option.none : Option Jvm.ClassFile.FieldType)) ∈ lw_all := lw_g (lw_at lw_m10 26 rfl) rfl
theorem q2477 : (Jvm.Cond.code ({ cls := "ModulaWorks$Sense", name := "leave", desc := "(LModulaWorks$Sym;Z)V" } : Jvm.MethodName) prog_12_method_154_code (3 : Nat) (Option.none : Option Jvm.ClassFile.FieldType)) ∈ lw_all := lw_g (lw_at lw_m10 33 rfl) rfl
theorem q2485 : (Jvm.Cond.code ({ cls := "ModulaWorks$Sense", name := "closingAll", desc := "(LModulaWorks$Sym;JJ)V" } : Jvm.MethodName) prog_12_method_26_code (7 : Nat) (Option.none : Option Jvm.ClassFile.FieldType)) ∈ lw_all := lw_g (lw_at lw_m10 41 rfl) rfl
theorem q3061 : (Jvm.Cond.codeWith ({ cls := "ModulaWorks$Sense", name := "isRight", desc := "(LModulaWorks$Unit;)Z" } : Jvm.MethodName) prog_12_method_18_code (3 : Nat) (Option.some Jvm.ClassFile.FieldType.boolean) [((4 : Nat), (27 : Nat), (28 : Nat), (9 : Nat))]) ∈ lw_all := lw_g (lw_at lw_m12 137 rfl) rfl
theorem q606 : (Jvm.Cond.code ({ cls := "ModulaWorks$Pool", name := "<init>", desc := "()V" } : Jvm.MethodName) prog_8_method_1_code (1 : Nat) (Option.none : Option Jvm.ClassFile.FieldType)) ∈ lw_all := lw_g (lw_at lw_m2 82 rfl) rfl
theorem q1378 : (Jvm.Cond.code ({ cls := "ModulaWorks$Pool", name := "begin", desc := "()V" } : Jvm.MethodName) prog_8_method_2_code (1 : Nat) (Option.none : Option Jvm.ClassFile.FieldType)) ∈ lw_all := lw_g (lw_at lw_m5 134 rfl) rfl
theorem q1386 : (Jvm.Cond.code ({ cls := "ModulaWorks$Pool", name := "scope", desc := "(LModulaWorks$Scope;)LModulaWorks$Scope;" } : Jvm.MethodName) prog_8_method_5_code (3 : Nat) (Option.some (Jvm.ClassFile.FieldType.object "ModulaWorks$Scope"))) ∈ lw_all := lw_g (lw_at lw_m5 142 rfl) rfl
theorem q1428 : (Jvm.Cond.code ({ cls := "ModulaWorks$Pool", name := "type", desc := "(II)LModulaWorks$Type;" } : Jvm.MethodName) prog_8_method_3_code (4 : Nat) (Option.some (Jvm.ClassFile.FieldType.object "ModulaWorks$Type"))) ∈ lw_all := lw_g (lw_at lw_m5 184 rfl) rfl
theorem q1508 : (Jvm.Cond.code ({ cls := "ModulaWorks$Pool", name := "sym", desc := "(JJILModulaWorks$Type;I)LModulaWorks$Sym;" } : Jvm.MethodName) prog_8_method_4_code (9 : Nat) (Option.some (Jvm.ClassFile.FieldType.object "ModulaWorks$Sym"))) ∈ lw_all := lw_g (lw_at lw_m6 24 rfl) rfl
theorem q637 : (Jvm.Cond.code ({ cls := "ModulaWorks$Maker", name := "<init>", desc := "()V" } : Jvm.MethodName) prog_6_method_1_code (1 : Nat) (Option.none : Option Jvm.ClassFile.FieldType)) ∈ lw_all := lw_g (lw_at lw_m2 113 rfl) rfl
theorem q1784 : (Jvm.Cond.code ({ cls := "ModulaWorks$Maker", name := "emit", desc := "(I)V" } : Jvm.MethodName) prog_6_method_2_code (2 : Nat) (Option.none : Option Jvm.ClassFile.FieldType)) ∈ lw_all := lw_g (lw_at lw_m7 60 rfl) rfl
theorem q1820 : (Jvm.Cond.code ({ cls := "ModulaWorks$Maker", name := "op", desc := "(II)V" } : Jvm.MethodName) prog_6_method_4_code (3 : Nat) (Option.none : Option Jvm.ClassFile.FieldType)) ∈ lw_all := lw_g (lw_at lw_m7 96 rfl) rfl
theorem q1825 : (Jvm.Cond.code ({ cls := "ModulaWorks$Maker", name := "word", desc := "(I)V" } : Jvm.MethodName) prog_6_method_3_code (2 : Nat) (Option.none : Option Jvm.ClassFile.FieldType)) ∈ lw_all := lw_g (lw_at lw_m7 101 rfl) rfl
theorem q2082 : (Jvm.Cond.code ({ cls := "ModulaWorks$Maker", name := "forth", desc := "(II)I" } : Jvm.MethodName) prog_6_method_7_code (3 : Nat) (Option.some Jvm.ClassFile.FieldType.int)) ∈ lw_all := lw_g (lw_at lw_m8 118 rfl) rfl
theorem q2091 : (Jvm.Cond.code ({ cls := "ModulaWorks$Maker", name := "land", desc := "(II)V" } : Jvm.MethodName) prog_6_method_8_code (5 : Nat) (Option.none : Option Jvm.ClassFile.FieldType)) ∈ lw_all := lw_g (lw_at lw_m8 127 rfl) rfl
theorem q2095 : (Jvm.Cond.code ({ cls := "ModulaWorks$Maker", name := "wordAt", desc := "(I)I" } : Jvm.MethodName) prog_6_method_5_code (2 : Nat) (Option.some Jvm.ClassFile.FieldType.int)) ∈ lw_all := lw_g (lw_at lw_m8 131 rfl) rfl
theorem q2099 : (Jvm.Cond.code ({ cls := "ModulaWorks$Maker", name := "setWord", desc := "(II)V" } : Jvm.MethodName) prog_6_method_6_code (3 : Nat) (Option.none : Option Jvm.ClassFile.FieldType)) ∈ lw_all := lw_g (lw_at lw_m8 135 rfl) rfl
theorem q835 : (Jvm.Cond.code ({ cls := "ModulaWorks$Kernel", name := "<init>", desc := "()V" } : Jvm.MethodName) prog_5_method_1_code (3 : Nat) (Option.none : Option Jvm.ClassFile.FieldType)) ∈ lw_all := lw_g (lw_at lw_m3 71 rfl) rfl
theorem q902 : (Jvm.Cond.code ({ cls := "ModulaWorks$Kernel", name := "entry", desc := "(ILjava/lang/String;)V" } : Jvm.MethodName) prog_5_method_2_code (4 : Nat) (Option.none : Option Jvm.ClassFile.FieldType)) ∈ lw_all := lw_g (lw_at lw_m3 138 rfl) rfl
theorem q906 : (Jvm.Cond.code ({ cls := "ModulaWorks$Kernel", name := "read", desc := "(Ljava/lang/String;)V" } : Jvm.MethodName) prog_5_method_5_code (4 : Nat) (Option.none : Option Jvm.ClassFile.FieldType)) ∈ lw_all := lw_g (lw_at lw_m3 142 rfl) rfl
theorem q1042 : (Jvm.Cond.code ({ cls := "ModulaWorks$Kernel", name := "token", desc := "(Ljava/lang/String;)V" } : Jvm.MethodName) prog_5_method_6_code (6 : Nat) (Option.none : Option Jvm.ClassFile.FieldType)) ∈ lw_all := lw_g (lw_at lw_m4 38 rfl) rfl
theorem q1051 : (Jvm.Cond.code ({ cls := "ModulaWorks$Kernel", name := "find", desc := "(Ljava/lang/String;)I" } : Jvm.MethodName) prog_5_method_3_code (3 : Nat) (Option.some Jvm.ClassFile.FieldType.int)) ∈ lw_all := lw_g (lw_at lw_m4 47 rfl) rfl
theorem q1063 : (Jvm.Cond.code ({ cls := "ModulaWorks$Kernel", name := "emit", desc := "(I)V" } : Jvm.MethodName) prog_5_method_4_code (2 : Nat) (Option.none : Option Jvm.ClassFile.FieldType)) ∈ lw_all := lw_g (lw_at lw_m4 59 rfl) rfl
theorem q1066 : (Jvm.Cond.code ({ cls := "ModulaWorks$Kernel", name := "digit", desc := "(C)I" } : Jvm.MethodName) prog_5_method_7_code (1 : Nat) (Option.some Jvm.ClassFile.FieldType.int)) ∈ lw_all := lw_g (lw_at lw_m4 62 rfl) rfl
theorem q1100 : (Jvm.Cond.code ({ cls := "ModulaWorks$Program", name := "<init>", desc := "()V" } : Jvm.MethodName) prog_10_method_1_code (1 : Nat) (Option.none : Option Jvm.ClassFile.FieldType)) ∈ lw_all := lw_g (lw_at lw_m4 96 rfl) rfl
theorem q2501 : (Jvm.Cond.code ({ cls := "ModulaWorks$Program", name := "start", desc := "()V" } : Jvm.MethodName) prog_10_method_2_code (2 : Nat) (Option.none : Option Jvm.ClassFile.FieldType)) ∈ lw_all := lw_g (lw_at lw_m10 57 rfl) rfl
theorem q2521 : (Jvm.Cond.code ({ cls := "ModulaWorks$Program", name := "run", desc := "(I)I" } : Jvm.MethodName) prog_10_method_4_code (3 : Nat) (Option.some Jvm.ClassFile.FieldType.int)) ∈ lw_all := lw_g (lw_at lw_m10 77 rfl) rfl
theorem q2721 : (Jvm.Cond.code ({ cls := "ModulaWorks$Program", name := "out", desc := "(LModulaWorks$Chip;II)V" } : Jvm.MethodName) prog_10_method_6_code (4 : Nat) (Option.none : Option Jvm.ClassFile.FieldType)) ∈ lw_all := lw_g (lw_at lw_m11 37 rfl) rfl
theorem q2725 : (Jvm.Cond.code ({ cls := "ModulaWorks$Program", name := "step", desc := "(LModulaWorks$Chip;)V" } : Jvm.MethodName) prog_10_method_7_code (3 : Nat) (Option.none : Option Jvm.ClassFile.FieldType)) ∈ lw_all := lw_g (lw_at lw_m11 41 rfl) rfl
theorem q2732 : (Jvm.Cond.code ({ cls := "ModulaWorks$Program", name := "stop", desc := "(LModulaWorks$Chip;I)V" } : Jvm.MethodName) prog_10_method_5_code (3 : Nat) (Option.none : Option Jvm.ClassFile.FieldType)) ∈ lw_all := lw_g (lw_at lw_m11 48 rfl) rfl
theorem q2779 : (Jvm.Cond.code ({ cls := "ModulaWorks$Program", name := "look", desc := "(I)I" } : Jvm.MethodName) prog_10_method_9_code (2 : Nat) (Option.some Jvm.ClassFile.FieldType.int)) ∈ lw_all := lw_g (lw_at lw_m11 95 rfl) rfl
theorem q1106 : (Jvm.Cond.code ({ cls := "ModulaWorks$Chip", name := "<init>", desc := "(LModulaWorks$Ports;)V" } : Jvm.MethodName) prog_2_method_1_code (2 : Nat) (Option.none : Option Jvm.ClassFile.FieldType)) ∈ lw_all := lw_g (lw_at lw_m4 102 rfl) rfl
theorem q2507 : (Jvm.Cond.code ({ cls := "ModulaWorks$Chip", name := "pokeWord", desc := "(II)V" } : Jvm.MethodName) prog_2_method_5_code (3 : Nat) (Option.none : Option Jvm.ClassFile.FieldType)) ∈ lw_all := lw_g (lw_at lw_m10 63 rfl) rfl
theorem q2511 : (Jvm.Cond.code ({ cls := "ModulaWorks$Chip", name := "poke", desc := "(II)V" } : Jvm.MethodName) prog_2_method_3_code (3 : Nat) (Option.none : Option Jvm.ClassFile.FieldType)) ∈ lw_all := lw_g (lw_at lw_m10 67 rfl) rfl
theorem q2525 : (Jvm.Cond.code ({ cls := "ModulaWorks$Chip", name := "step", desc := "()V" } : Jvm.MethodName) prog_2_method_26_code (4 : Nat) (Option.none : Option Jvm.ClassFile.FieldType)) ∈ lw_all := lw_g (lw_at lw_m10 81 rfl) rfl
theorem q2529 : (Jvm.Cond.code ({ cls := "ModulaWorks$Chip", name := "next", desc := "()I" } : Jvm.MethodName) prog_2_method_6_code (2 : Nat) (Option.some Jvm.ClassFile.FieldType.int)) ∈ lw_all := lw_g (lw_at lw_m10 85 rfl) rfl
theorem q2533 : (Jvm.Cond.code ({ cls := "ModulaWorks$Chip", name := "peek", desc := "(I)I" } : Jvm.MethodName) prog_2_method_2_code (2 : Nat) (Option.some Jvm.ClassFile.FieldType.int)) ∈ lw_all := lw_g (lw_at lw_m10 89 rfl) rfl
theorem q2536 : (Jvm.Cond.code ({ cls := "ModulaWorks$Chip", name := "hasMain", desc := "(I)Z" } : Jvm.MethodName) prog_2_method_27_code (4 : Nat) (Option.some Jvm.ClassFile.FieldType.boolean)) ∈ lw_all := lw_g (lw_at lw_m10 92 rfl) rfl
theorem q2544 : (Jvm.Cond.code ({ cls := "ModulaWorks$Chip", name := "main", desc := "()I" } : Jvm.MethodName) prog_2_method_10_code (1 : Nat) (Option.some Jvm.ClassFile.FieldType.int)) ∈ lw_all := lw_g (lw_at lw_m10 100 rfl) rfl
theorem q2548 : (Jvm.Cond.code ({ cls := "ModulaWorks$Chip", name := "hl", desc := "()I" } : Jvm.MethodName) prog_2_method_9_code (1 : Nat) (Option.some Jvm.ClassFile.FieldType.int)) ∈ lw_all := lw_g (lw_at lw_m10 104 rfl) rfl
theorem q2552 : (Jvm.Cond.code ({ cls := "ModulaWorks$Chip", name := "nextSigned", desc := "()I" } : Jvm.MethodName) prog_2_method_8_code (1 : Nat) (Option.some Jvm.ClassFile.FieldType.int)) ∈ lw_all := lw_g (lw_at lw_m10 108 rfl) rfl
theorem q2556 : (Jvm.Cond.code ({ cls := "ModulaWorks$Chip", name := "bits", desc := "(I)Z" } : Jvm.MethodName) prog_2_method_49_code (7 : Nat) (Option.some Jvm.ClassFile.FieldType.boolean)) ∈ lw_all := lw_g (lw_at lw_m10 112 rfl) rfl
theorem q2560 : (Jvm.Cond.code ({ cls := "ModulaWorks$Chip", name := "get", desc := "(I)I" } : Jvm.MethodName) prog_2_method_16_code (2 : Nat) (Option.some Jvm.ClassFile.FieldType.int)) ∈ lw_all := lw_g (lw_at lw_m10 116 rfl) rfl
theorem q2564 : (Jvm.Cond.code ({ cls := "ModulaWorks$Chip", name := "f", desc := "()I" } : Jvm.MethodName) prog_2_method_19_code (1 : Nat) (Option.some Jvm.ClassFile.FieldType.int)) ∈ lw_all := lw_g (lw_at lw_m10 120 rfl) rfl
theorem q2568 : (Jvm.Cond.code ({ cls := "ModulaWorks$Chip", name := "set", desc := "(II)V" } : Jvm.MethodName) prog_2_method_17_code (3 : Nat) (Option.none : Option Jvm.ClassFile.FieldType)) ∈ lw_all := lw_g (lw_at lw_m10 124 rfl) rfl
theorem q2572 : (Jvm.Cond.code ({ cls := "ModulaWorks$Chip", name := "turned", desc := "(II)I" } : Jvm.MethodName) prog_2_method_50_code (7 : Nat) (Option.some Jvm.ClassFile.FieldType.int)) ∈ lw_all := lw_g (lw_at lw_m10 128 rfl) rfl
theorem q2575 : (Jvm.Cond.code ({ cls := "ModulaWorks$Chip", name := "signs", desc := "(I)I" } : Jvm.MethodName) prog_2_method_22_code (1 : Nat) (Option.some Jvm.ClassFile.FieldType.int)) ∈ lw_all := lw_g (lw_at lw_m10 131 rfl) rfl
theorem q2578 : (Jvm.Cond.code ({ cls := "ModulaWorks$Chip", name := "even", desc := "(I)I" } : Jvm.MethodName) prog_2_method_23_code (1 : Nat) (Option.some Jvm.ClassFile.FieldType.int)) ∈ lw_all := lw_g (lw_at lw_m10 134 rfl) rfl
theorem q2588 : (Jvm.Cond.code ({ cls := "ModulaWorks$Chip", name := "indexed", desc := "(I)Z" } : Jvm.MethodName) prog_2_method_28_code (6 : Nat) (Option.some Jvm.ClassFile.FieldType.boolean)) ∈ lw_all := lw_g (lw_at lw_m10 144 rfl) rfl
theorem q2592 : (Jvm.Cond.code ({ cls := "ModulaWorks$Chip", name := "plain", desc := "(I)Z" } : Jvm.MethodName) prog_2_method_30_code (5 : Nat) (Option.some Jvm.ClassFile.FieldType.boolean)) ∈ lw_all := lw_g (lw_at lw_m10 148 rfl) rfl
theorem q2596 : (Jvm.Cond.code ({ cls := "ModulaWorks$Chip", name := "first", desc := "(II)Z" } : Jvm.MethodName) prog_2_method_31_code (5 : Nat) (Option.some Jvm.ClassFile.FieldType.boolean)) ∈ lw_all := lw_g (lw_at lw_m10 152 rfl) rfl
theorem q2600 : (Jvm.Cond.code ({ cls := "ModulaWorks$Chip", name := "near", desc := "(I)V" } : Jvm.MethodName) prog_2_method_32_code (4 : Nat) (Option.none : Option Jvm.ClassFile.FieldType)) ∈ lw_all := lw_g (lw_at lw_m10 156 rfl) rfl
theorem q2608 : (Jvm.Cond.code ({ cls := "ModulaWorks$Chip", name := "is", desc := "(I)Z" } : Jvm.MethodName) prog_2_method_21_code (3 : Nat) (Option.some Jvm.ClassFile.FieldType.boolean)) ∈ lw_all := lw_g (lw_at lw_m10 164 rfl) rfl
theorem q2612 : (Jvm.Cond.code ({ cls := "ModulaWorks$Chip", name := "has", desc := "(I)Z" } : Jvm.MethodName) prog_2_method_20_code (2 : Nat) (Option.some Jvm.ClassFile.FieldType.boolean)) ∈ lw_all := lw_g (lw_at lw_m10 168 rfl) rfl
theorem q2616 : (Jvm.Cond.code ({ cls := "ModulaWorks$Chip", name := "ss", desc := "(I)I" } : Jvm.MethodName) prog_2_method_14_code (2 : Nat) (Option.some Jvm.ClassFile.FieldType.int)) ∈ lw_all := lw_g (lw_at lw_m10 172 rfl) rfl
theorem q2620 : (Jvm.Cond.code ({ cls := "ModulaWorks$Chip", name := "pairAt", desc := "(I)I" } : Jvm.MethodName) prog_2_method_12_code (2 : Nat) (Option.some Jvm.ClassFile.FieldType.int)) ∈ lw_all := lw_g (lw_at lw_m10 176 rfl) rfl
theorem q2624 : (Jvm.Cond.code ({ cls := "ModulaWorks$Chip", name := "addPair", desc := "(I)V" } : Jvm.MethodName) prog_2_method_35_code (4 : Nat) (Option.none : Option Jvm.ClassFile.FieldType)) ∈ lw_all := lw_g (lw_at lw_m10 180 rfl) rfl
theorem q2628 : (Jvm.Cond.code ({ cls := "ModulaWorks$Chip", name := "setMain", desc := "(I)V" } : Jvm.MethodName) prog_2_method_11_code (2 : Nat) (Option.none : Option Jvm.ClassFile.FieldType)) ∈ lw_all := lw_g (lw_at lw_m10 184 rfl) rfl
theorem q2632 : (Jvm.Cond.code ({ cls := "ModulaWorks$Chip", name := "setPair", desc := "(II)V" } : Jvm.MethodName) prog_2_method_13_code (3 : Nat) (Option.none : Option Jvm.ClassFile.FieldType)) ∈ lw_all := lw_g (lw_at lw_m10 188 rfl) rfl
theorem q2636 : (Jvm.Cond.code ({ cls := "ModulaWorks$Chip", name := "nextWord", desc := "()I" } : Jvm.MethodName) prog_2_method_7_code (2 : Nat) (Option.some Jvm.ClassFile.FieldType.int)) ∈ lw_all := lw_g (lw_at lw_m10 192 rfl) rfl
theorem q2640 : (Jvm.Cond.code ({ cls := "ModulaWorks$Chip", name := "setSs", desc := "(II)V" } : Jvm.MethodName) prog_2_method_15_code (3 : Nat) (Option.none : Option Jvm.ClassFile.FieldType)) ∈ lw_all := lw_g (lw_at lw_m10 196 rfl) rfl
theorem q2644 : (Jvm.Cond.code ({ cls := "ModulaWorks$Chip", name := "far", desc := "(IZ)V" } : Jvm.MethodName) prog_2_method_34_code (4 : Nat) (Option.none : Option Jvm.ClassFile.FieldType)) ∈ lw_all := lw_g (lw_at lw_m10 200 rfl) rfl
theorem q2648 : (Jvm.Cond.code ({ cls := "ModulaWorks$Chip", name := "word", desc := "(I)I" } : Jvm.MethodName) prog_2_method_4_code (2 : Nat) (Option.some Jvm.ClassFile.FieldType.int)) ∈ lw_all := lw_g (lw_at lw_m10 204 rfl) rfl
theorem q2653 : (Jvm.Cond.code ({ cls := "ModulaWorks$Chip", name := "oneMore", desc := "(I)I" } : Jvm.MethodName) prog_2_method_36_code (3 : Nat) (Option.some Jvm.ClassFile.FieldType.int)) ∈ lw_all := lw_g (lw_at lw_m10 209 rfl) rfl
theorem q2657 : (Jvm.Cond.code ({ cls := "ModulaWorks$Chip", name := "oneLess", desc := "(I)I" } : Jvm.MethodName) prog_2_method_37_code (3 : Nat) (Option.some Jvm.ClassFile.FieldType.int)) ∈ lw_all := lw_g (lw_at lw_m10 213 rfl) rfl
theorem q2665 : (Jvm.Cond.code ({ cls := "ModulaWorks$Chip", name := "a", desc := "()I" } : Jvm.MethodName) prog_2_method_18_code (1 : Nat) (Option.some Jvm.ClassFile.FieldType.int)) ∈ lw_all := lw_g (lw_at lw_m10 221 rfl) rfl
theorem q2673 : (Jvm.Cond.code ({ cls := "ModulaWorks$Chip", name := "reckon", desc := "(II)V" } : Jvm.MethodName) prog_2_method_40_code (5 : Nat) (Option.none : Option Jvm.ClassFile.FieldType)) ∈ lw_all := lw_g (lw_at lw_m10 229 rfl) rfl
theorem q2677 : (Jvm.Cond.code ({ cls := "ModulaWorks$Chip", name := "plus", desc := "(III)I" } : Jvm.MethodName) prog_2_method_41_code (6 : Nat) (Option.some Jvm.ClassFile.FieldType.int)) ∈ lw_all := lw_g (lw_at lw_m10 233 rfl) rfl
theorem q2681 : (Jvm.Cond.code ({ cls := "ModulaWorks$Chip", name := "minus", desc := "(III)I" } : Jvm.MethodName) prog_2_method_42_code (6 : Nat) (Option.some Jvm.ClassFile.FieldType.int)) ∈ lw_all := lw_g (lw_at lw_m10 237 rfl) rfl
theorem q2685 : (Jvm.Cond.code ({ cls := "ModulaWorks$Chip", name := "last", desc := "(II)Z" } : Jvm.MethodName) prog_2_method_44_code (6 : Nat) (Option.some Jvm.ClassFile.FieldType.boolean)) ∈ lw_all := lw_g (lw_at lw_m11 1 rfl) rfl
theorem q2689 : (Jvm.Cond.code ({ cls := "ModulaWorks$Chip", name := "pop", desc := "()I" } : Jvm.MethodName) prog_2_method_25_code (2 : Nat) (Option.some Jvm.ClassFile.FieldType.int)) ∈ lw_all := lw_g (lw_at lw_m11 5 rfl) rfl
theorem q2693 : (Jvm.Cond.code ({ cls := "ModulaWorks$Chip", name := "various", desc := "(I)V" } : Jvm.MethodName) prog_2_method_46_code (3 : Nat) (Option.none : Option Jvm.ClassFile.FieldType)) ∈ lw_all := lw_g (lw_at lw_m11 9 rfl) rfl
theorem q2697 : (Jvm.Cond.code ({ cls := "ModulaWorks$Chip", name := "pops", desc := "(I)V" } : Jvm.MethodName) prog_2_method_45_code (3 : Nat) (Option.none : Option Jvm.ClassFile.FieldType)) ∈ lw_all := lw_g (lw_at lw_m11 13 rfl) rfl
theorem q2701 : (Jvm.Cond.code ({ cls := "ModulaWorks$Chip", name := "push", desc := "(I)V" } : Jvm.MethodName) prog_2_method_24_code (2 : Nat) (Option.none : Option Jvm.ClassFile.FieldType)) ∈ lw_all := lw_g (lw_at lw_m11 17 rfl) rfl
theorem q2705 : (Jvm.Cond.code ({ cls := "ModulaWorks$Chip", name := "others", desc := "(I)Z" } : Jvm.MethodName) prog_2_method_47_code (4 : Nat) (Option.some Jvm.ClassFile.FieldType.boolean)) ∈ lw_all := lw_g (lw_at lw_m11 21 rfl) rfl
theorem q2750 : (Jvm.Cond.code ({ cls := "ModulaWorks$Chip", name := "prefixed", desc := "(I)Z" } : Jvm.MethodName) prog_2_method_48_code (3 : Nat) (Option.some Jvm.ClassFile.FieldType.boolean)) ∈ lw_all := lw_g (lw_at lw_m11 66 rfl) rfl
theorem q2754 : (Jvm.Cond.code ({ cls := "ModulaWorks$Chip", name := "extended", desc := "(I)Z" } : Jvm.MethodName) prog_2_method_51_code (8 : Nat) (Option.some Jvm.ClassFile.FieldType.boolean)) ∈ lw_all := lw_g (lw_at lw_m11 70 rfl) rfl
theorem q2758 : (Jvm.Cond.code ({ cls := "ModulaWorks$Chip", name := "block", desc := "(IZ)V" } : Jvm.MethodName) prog_2_method_53_code (7 : Nat) (Option.none : Option Jvm.ClassFile.FieldType)) ∈ lw_all := lw_g (lw_at lw_m11 74 rfl) rfl
theorem q2762 : (Jvm.Cond.code ({ cls := "ModulaWorks$Chip", name := "wide", desc := "(ZI)V" } : Jvm.MethodName) prog_2_method_43_code (9 : Nat) (Option.none : Option Jvm.ClassFile.FieldType)) ∈ lw_all := lw_g (lw_at lw_m11 78 rfl) rfl
theorem q1227 : (Jvm.Cond.code ({ cls := "ModulaWorks$Plugs", name := "<init>", desc := "()V" } : Jvm.MethodName) prog_7_method_1_code (1 : Nat) (Option.none : Option Jvm.ClassFile.FieldType)) ∈ lw_all := lw_g (lw_at lw_m4 223 rfl) rfl
theorem q1391 : (Jvm.Cond.code ({ cls := "ModulaWorks$Scope", name := "<init>", desc := "()V" } : Jvm.MethodName) prog_11_method_1_code (1 : Nat) (Option.none : Option Jvm.ClassFile.FieldType)) ∈ lw_all := lw_g (lw_at lw_m5 147 rfl) rfl
theorem q1420 : (Jvm.Cond.code ({ cls := "ModulaWorks$Scope", name := "begin", desc := "(LModulaWorks$Scope;)V" } : Jvm.MethodName) prog_11_method_2_code (2 : Nat) (Option.none : Option Jvm.ClassFile.FieldType)) ∈ lw_all := lw_g (lw_at lw_m5 176 rfl) rfl
theorem q1619 : (Jvm.Cond.code ({ cls := "ModulaWorks$Scope", name := "add", desc := "(LModulaWorks$Sym;)V" } : Jvm.MethodName) prog_11_method_4_code (2 : Nat) (Option.none : Option Jvm.ClassFile.FieldType)) ∈ lw_all := lw_g (lw_at lw_m6 135 rfl) rfl
theorem q1695 : (Jvm.Cond.code ({ cls := "ModulaWorks$Scope", name := "find", desc := "(JJ)LModulaWorks$Sym;" } : Jvm.MethodName) prog_11_method_3_code (6 : Nat) (Option.some (Jvm.ClassFile.FieldType.object "ModulaWorks$Sym"))) ∈ lw_all := lw_g (lw_at lw_m6 211 rfl) rfl
theorem q1432 : (Jvm.Cond.code ({ cls := "ModulaWorks$Type", name := "<init>", desc := "()V" } : Jvm.MethodName) prog_16_method_1_code (1 : Nat) (Option.none : Option Jvm.ClassFile.FieldType)) ∈ lw_all := lw_g (lw_at lw_m5 188 rfl) rfl
theorem q1486 : (Jvm.Cond.code ({ cls := "ModulaWorks$Type", name := "begin", desc := "(II)V" } : Jvm.MethodName) prog_16_method_2_code (3 : Nat) (Option.none : Option Jvm.ClassFile.FieldType)) ∈ lw_all := lw_g (lw_at lw_m6 2 rfl) rfl
theorem q1801 : (Jvm.Cond.code ({ cls := "ModulaWorks$Type", name := "isOrdinal", desc := "()Z" } : Jvm.MethodName) prog_16_method_4_code (1 : Nat) (Option.some Jvm.ClassFile.FieldType.boolean)) ∈ lw_all := lw_g (lw_at lw_m7 77 rfl) rfl
theorem q1805 : (Jvm.Cond.code ({ cls := "ModulaWorks$Type", name := "isWhole", desc := "()Z" } : Jvm.MethodName) prog_16_method_3_code (1 : Nat) (Option.some Jvm.ClassFile.FieldType.boolean)) ∈ lw_all := lw_g (lw_at lw_m7 81 rfl) rfl
theorem q1944 : (Jvm.Cond.code ({ cls := "ModulaWorks$Type", name := "isArray", desc := "()Z" } : Jvm.MethodName) prog_16_method_7_code (1 : Nat) (Option.some Jvm.ClassFile.FieldType.boolean)) ∈ lw_all := lw_g (lw_at lw_m7 220 rfl) rfl
theorem q1969 : (Jvm.Cond.code ({ cls := "ModulaWorks$Type", name := "has", desc := "(I)Z" } : Jvm.MethodName) prog_16_method_8_code (2 : Nat) (Option.some Jvm.ClassFile.FieldType.boolean)) ∈ lw_all := lw_g (lw_at lw_m8 5 rfl) rfl
theorem q2047 : (Jvm.Cond.code ({ cls := "ModulaWorks$Type", name := "isScalar", desc := "()Z" } : Jvm.MethodName) prog_16_method_5_code (1 : Nat) (Option.some Jvm.ClassFile.FieldType.boolean)) ∈ lw_all := lw_g (lw_at lw_m8 83 rfl) rfl
theorem q1512 : (Jvm.Cond.code ({ cls := "ModulaWorks$Sym", name := "<init>", desc := "()V" } : Jvm.MethodName) prog_14_method_1_code (1 : Nat) (Option.none : Option Jvm.ClassFile.FieldType)) ∈ lw_all := lw_g (lw_at lw_m6 28 rfl) rfl
theorem q1615 : (Jvm.Cond.code ({ cls := "ModulaWorks$Sym", name := "begin", desc := "(JJILModulaWorks$Type;I)V" } : Jvm.MethodName) prog_14_method_2_code (8 : Nat) (Option.none : Option Jvm.ClassFile.FieldType)) ∈ lw_all := lw_g (lw_at lw_m6 131 rfl) rfl
theorem q1699 : (Jvm.Cond.code ({ cls := "ModulaWorks$Sym", name := "is", desc := "(JJ)Z" } : Jvm.MethodName) prog_14_method_3_code (5 : Nat) (Option.some Jvm.ClassFile.FieldType.boolean)) ∈ lw_all := lw_g (lw_at lw_m6 215 rfl) rfl
theorem q1749 : (Jvm.Cond.code ({ cls := "ModulaWorks$Item", name := "<init>", desc := "()V" } : Jvm.MethodName) prog_4_method_1_code (1 : Nat) (Option.none : Option Jvm.ClassFile.FieldType)) ∈ lw_all := lw_g (lw_at lw_m7 25 rfl) rfl
theorem q910 : (Jvm.Cond.code ({ cls := "java/lang/String", name := "length", desc := "()I" } : Jvm.MethodName) prog_26_method_54_code (1 : Nat) (Option.some Jvm.ClassFile.FieldType.int)) ∈ lw_all := lw_g (lw_at lw_m3 146 rfl) rfl
theorem q914 : (Jvm.Cond.code ({ cls := "java/lang/String", name := "coder", desc := "()B" } : Jvm.MethodName) prog_26_method_152_code (1 : Nat) (Option.some Jvm.ClassFile.FieldType.byte)) ∈ lw_all := lw_g (lw_at lw_m3 150 rfl) rfl
theorem q920 : (Jvm.Cond.code ({ cls := "java/lang/String", name := "charAt", desc := "(I)C" } : Jvm.MethodName) prog_26_method_56_code (2 : Nat) (Option.some Jvm.ClassFile.FieldType.char)) ∈ lw_all := lw_g (lw_at lw_m3 156 rfl) rfl
theorem q924 : (Jvm.Cond.code ({ cls := "java/lang/String", name := "isLatin1", desc := "()Z" } : Jvm.MethodName) prog_26_method_154_code (1 : Nat) (Option.some Jvm.ClassFile.FieldType.boolean)) ∈ lw_all := lw_g (lw_at lw_m3 160 rfl) rfl
theorem q930 : (Jvm.Cond.code ({ cls := "java/lang/String", name := "checkIndex", desc := "(II)V" } : Jvm.MethodName) prog_26_method_155_code (2 : Nat) (Option.none : Option Jvm.ClassFile.FieldType)) ∈ lw_all := lw_g (lw_at lw_m3 166 rfl) rfl
theorem q958 : (Jvm.Cond.code ({ cls := "java/lang/String", name := "substring", desc := "(II)Ljava/lang/String;" } : Jvm.MethodName) prog_26_method_92_code (5 : Nat) (Option.some (Jvm.ClassFile.FieldType.object "java/lang/String"))) ∈ lw_all := lw_g (lw_at lw_m3 194 rfl) rfl
theorem q962 : (Jvm.Cond.code ({ cls := "java/lang/String", name := "checkBoundsBeginEnd", desc := "(III)V" } : Jvm.MethodName) prog_26_method_158_code (3 : Nat) (Option.none : Option Jvm.ClassFile.FieldType)) ∈ lw_all := lw_g (lw_at lw_m3 198 rfl) rfl
theorem q996 : (Jvm.Cond.code ({ cls := "java/lang/String", name := "<init>", desc := "([BB)V" } : Jvm.MethodName) prog_26_method_151_code (3 : Nat) (Option.none : Option Jvm.ClassFile.FieldType)) ∈ lw_all := lw_g (lw_at lw_m3 232 rfl) rfl
theorem q1046 : (Jvm.Cond.code ({ cls := "java/lang/String", name := "substring", desc := "(I)Ljava/lang/String;" } : Jvm.MethodName) prog_26_method_91_code (2 : Nat) (Option.some (Jvm.ClassFile.FieldType.object "java/lang/String"))) ∈ lw_all := lw_g (lw_at lw_m4 42 rfl) rfl
theorem q1055 : (Jvm.Cond.code ({ cls := "java/lang/String", name := "equals", desc := "(Ljava/lang/Object;)Z" } : Jvm.MethodName) prog_26_method_66_code (3 : Nat) (Option.some Jvm.ClassFile.FieldType.boolean)) ∈ lw_all := lw_g (lw_at lw_m4 51 rfl) rfl
theorem q300 : (Jvm.Cond.initialized "java/lang/StringLatin1") ∈ lw_all := lw_g (lw_at lw_m1 16 rfl) rfl
theorem q927 : (Jvm.Cond.code ({ cls := "java/lang/StringLatin1", name := "charAt", desc := "([BI)C" } : Jvm.MethodName) prog_27_method_2_code (2 : Nat) (Option.some Jvm.ClassFile.FieldType.char)) ∈ lw_all := lw_g (lw_at lw_m3 163 rfl) rfl
theorem q968 : (Jvm.Cond.code ({ cls := "java/lang/StringLatin1", name := "newString", desc := "([BII)Ljava/lang/String;" } : Jvm.MethodName) prog_27_method_47_code (3 : Nat) (Option.some (Jvm.ClassFile.FieldType.object "java/lang/String"))) ∈ lw_all := lw_g (lw_at lw_m3 204 rfl) rfl
theorem q1059 : (Jvm.Cond.code ({ cls := "java/lang/StringLatin1", name := "equals", desc := "([B[B)Z" } : Jvm.MethodName) prog_27_method_13_code (3 : Nat) (Option.some Jvm.ClassFile.FieldType.boolean)) ∈ lw_all := lw_g (lw_at lw_m4 55 rfl) rfl
theorem q301 : (Jvm.Cond.initialized "jdk/internal/util/Preconditions") ∈ lw_all := lw_g (lw_at lw_m1 17 rfl) rfl
theorem q935 : (Jvm.Cond.code ({ cls := "jdk/internal/util/Preconditions", name := "checkIndex", desc := "(IILjava/util/function/BiFunction;)I" } : Jvm.MethodName) prog_32_method_11_code (3 : Nat) (Option.some Jvm.ClassFile.FieldType.int)) ∈ lw_all := lw_g (lw_at lw_m3 171 rfl) rfl
theorem q965 : (Jvm.Cond.code ({ cls := "jdk/internal/util/Preconditions", name := "checkFromToIndex", desc := "(IIILjava/util/function/BiFunction;)I" } : Jvm.MethodName) prog_32_method_12_code (4 : Nat) (Option.some Jvm.ClassFile.FieldType.int)) ∈ lw_all := lw_g (lw_at lw_m3 201 rfl) rfl
theorem q303 : (Jvm.Cond.initialized "java/util/Arrays") ∈ lw_all := lw_g (lw_at lw_m1 19 rfl) rfl
theorem q974 : (Jvm.Cond.code ({ cls := "java/util/Arrays", name := "copyOfRange", desc := "([BII)[B" } : Jvm.MethodName) prog_31_method_132_code (3 : Nat) (Option.some (Jvm.ClassFile.FieldType.array Jvm.ClassFile.FieldType.byte))) ∈ lw_all := lw_g (lw_at lw_m3 210 rfl) rfl
theorem q977 : (Jvm.Cond.code ({ cls := "java/util/Arrays", name := "copyOfRangeByte", desc := "([BII)[B" } : Jvm.MethodName) prog_31_method_133_code (5 : Nat) (Option.some (Jvm.ClassFile.FieldType.array Jvm.ClassFile.FieldType.byte))) ∈ lw_all := lw_g (lw_at lw_m3 213 rfl) rfl
theorem q980 : (Jvm.Cond.code ({ cls := "java/util/Arrays", name := "checkLength", desc := "(II)V" } : Jvm.MethodName) prog_31_method_131_code (2 : Nat) (Option.none : Option Jvm.ClassFile.FieldType)) ∈ lw_all := lw_g (lw_at lw_m3 216 rfl) rfl
theorem q313 : (Jvm.Cond.initialized "java/lang/Integer") ∈ lw_all := lw_g (lw_at lw_m1 29 rfl) rfl
theorem q2581 : (Jvm.Cond.code ({ cls := "java/lang/Integer", name := "bitCount", desc := "(I)I" } : Jvm.MethodName) prog_23_method_49_code (1 : Nat) (Option.some Jvm.ClassFile.FieldType.int)) ∈ lw_all := lw_g (lw_at lw_m10 137 rfl) rfl
theorem q291 : (Jvm.Cond.initialized "java/lang/Throwable") ∈ lw_all := lw_g (lw_at lw_m1 7 rfl) rfl
theorem q540 : (Jvm.Cond.code ({ cls := "java/lang/Throwable", name := "<init>", desc := "()V" } : Jvm.MethodName) prog_30_method_1_code (1 : Nat) (Option.none : Option Jvm.ClassFile.FieldType)) ∈ lw_all := lw_g (lw_at lw_m2 16 rfl) rfl
theorem q566 : (Jvm.Cond.code ({ cls := "java/lang/Throwable", name := "<init>", desc := "(Ljava/lang/String;Ljava/lang/Throwable;ZZ)V" } : Jvm.MethodName) prog_30_method_5_code (5 : Nat) (Option.none : Option Jvm.ClassFile.FieldType)) ∈ lw_all := lw_g (lw_at lw_m2 42 rfl) rfl
theorem q292 : (Jvm.Cond.initialized "java/lang/Exception") ∈ lw_all := lw_g (lw_at lw_m1 8 rfl) rfl
theorem q563 : (Jvm.Cond.code ({ cls := "java/lang/Exception", name := "<init>", desc := "(Ljava/lang/String;Ljava/lang/Throwable;ZZ)V" } : Jvm.MethodName) prog_22_method_5_code (5 : Nat) (Option.none : Option Jvm.ClassFile.FieldType)) ∈ lw_all := lw_g (lw_at lw_m2 39 rfl) rfl
theorem q293 : (Jvm.Cond.initialized "java/lang/RuntimeException") ∈ lw_all := lw_g (lw_at lw_m1 9 rfl) rfl
theorem q560 : (Jvm.Cond.code ({ cls := "java/lang/RuntimeException", name := "<init>", desc := "(Ljava/lang/String;Ljava/lang/Throwable;ZZ)V" } : Jvm.MethodName) prog_25_method_5_code (5 : Nat) (Option.none : Option Jvm.ClassFile.FieldType)) ∈ lw_all := lw_g (lw_at lw_m2 36 rfl) rfl
theorem q2784 : (Jvm.Cond.methodLink "ModulaWorksLaw" (9 : Nat) ({ cls := "ModulaWorks", name := "feed", desc := "(IIIII)I" } : Jvm.MethodName)) ∈ lw_all := lw_g (lw_at lw_m11 100 rfl) rfl
theorem q2785 : (Jvm.Cond.instanceMethod ({ cls := "ModulaWorks", name := "feed", desc := "(IIIII)I" } : Jvm.MethodName)) ∈ lw_all := lw_g (lw_at lw_m11 101 rfl) rfl
theorem q2786 : (Jvm.Cond.selects "ModulaWorks" ({ cls := "ModulaWorks", name := "feed", desc := "(IIIII)I" } : Jvm.MethodName) ({ cls := "ModulaWorks", name := "feed", desc := "(IIIII)I" } : Jvm.MethodName)) ∈ lw_all := lw_g (lw_at lw_m11 102 rfl) rfl
theorem q2795 : (Jvm.Cond.methodLink "ModulaWorksLaw" (15 : Nat) ({ cls := "ModulaWorks", name := "compile", desc := "(I)I" } : Jvm.MethodName)) ∈ lw_all := lw_g (lw_at lw_m11 111 rfl) rfl
theorem q2796 : (Jvm.Cond.instanceMethod ({ cls := "ModulaWorks", name := "compile", desc := "(I)I" } : Jvm.MethodName)) ∈ lw_all := lw_g (lw_at lw_m11 112 rfl) rfl
theorem q2797 : (Jvm.Cond.selects "ModulaWorks" ({ cls := "ModulaWorks", name := "compile", desc := "(I)I" } : Jvm.MethodName) ({ cls := "ModulaWorks", name := "compile", desc := "(I)I" } : Jvm.MethodName)) ∈ lw_all := lw_g (lw_at lw_m11 113 rfl) rfl
theorem q2780 : (Jvm.Cond.methodLink "ModulaWorksLaw" (21 : Nat) ({ cls := "ModulaWorksLaw", name := "put", desc := "(LModulaWorks;[JI)V" } : Jvm.MethodName)) ∈ lw_all := lw_g (lw_at lw_m11 96 rfl) rfl
theorem q2781 : (Jvm.Cond.static ({ cls := "ModulaWorksLaw", name := "put", desc := "(LModulaWorks;[JI)V" } : Jvm.MethodName)) ∈ lw_all := lw_g (lw_at lw_m11 97 rfl) rfl
theorem q3070 : (Jvm.Cond.methodLink "ModulaWorksLaw" (29 : Nat) ({ cls := "ModulaWorksLaw", name := "word", desc := "(LModulaWorks;[JJ)V" } : Jvm.MethodName)) ∈ lw_all := lw_g (lw_at lw_m12 146 rfl) rfl
theorem q3071 : (Jvm.Cond.static ({ cls := "ModulaWorksLaw", name := "word", desc := "(LModulaWorks;[JJ)V" } : Jvm.MethodName)) ∈ lw_all := lw_g (lw_at lw_m12 147 rfl) rfl
theorem q3087 : (Jvm.Cond.methodLink "ModulaWorksLaw" (33 : Nat) ({ cls := "ModulaWorksLaw", name := "variable", desc := "(LModulaWorks;[JI)V" } : Jvm.MethodName)) ∈ lw_all := lw_g (lw_at lw_m12 163 rfl) rfl
theorem q3088 : (Jvm.Cond.static ({ cls := "ModulaWorksLaw", name := "variable", desc := "(LModulaWorks;[JI)V" } : Jvm.MethodName)) ∈ lw_all := lw_g (lw_at lw_m12 164 rfl) rfl
theorem q3093 : (Jvm.Cond.methodLink "ModulaWorksLaw" (42 : Nat) ({ cls := "ModulaWorksLaw", name := "constant", desc := "(I)I" } : Jvm.MethodName)) ∈ lw_all := lw_g (lw_at lw_m12 169 rfl) rfl
theorem q3094 : (Jvm.Cond.static ({ cls := "ModulaWorksLaw", name := "constant", desc := "(I)I" } : Jvm.MethodName)) ∈ lw_all := lw_g (lw_at lw_m12 170 rfl) rfl
theorem q3096 : (Jvm.Cond.methodLink "ModulaWorksLaw" (45 : Nat) ({ cls := "ModulaWorksLaw", name := "number", desc := "(LModulaWorks;[JI)V" } : Jvm.MethodName)) ∈ lw_all := lw_g (lw_at lw_m12 172 rfl) rfl
theorem q3097 : (Jvm.Cond.static ({ cls := "ModulaWorksLaw", name := "number", desc := "(LModulaWorks;[JI)V" } : Jvm.MethodName)) ∈ lw_all := lw_g (lw_at lw_m12 173 rfl) rfl
theorem q3127 : (Jvm.Cond.methodLink "ModulaWorksLaw" (60 : Nat) ({ cls := "ModulaWorksLaw", name := "down", desc := "(JJ)J" } : Jvm.MethodName)) ∈ lw_all := lw_g (lw_at lw_m12 203 rfl) rfl
theorem q3128 : (Jvm.Cond.static ({ cls := "ModulaWorksLaw", name := "down", desc := "(JJ)J" } : Jvm.MethodName)) ∈ lw_all := lw_g (lw_at lw_m12 204 rfl) rfl
theorem q3138 : (Jvm.Cond.methodLink "ModulaWorksLaw" (76 : Nat) ({ cls := "ModulaWorksLaw", name := "letter", desc := "([J[II)V" } : Jvm.MethodName)) ∈ lw_all := lw_g (lw_at lw_m12 214 rfl) rfl
theorem q3139 : (Jvm.Cond.static ({ cls := "ModulaWorksLaw", name := "letter", desc := "([J[II)V" } : Jvm.MethodName)) ∈ lw_all := lw_g (lw_at lw_m12 215 rfl) rfl
theorem q3080 : (Jvm.Cond.methodLink "ModulaWorksLaw" (82 : Nat) ({ cls := "ModulaWorksLaw", name := "kindOf", desc := "(I)I" } : Jvm.MethodName)) ∈ lw_all := lw_g (lw_at lw_m12 156 rfl) rfl
theorem q3081 : (Jvm.Cond.static ({ cls := "ModulaWorksLaw", name := "kindOf", desc := "(I)I" } : Jvm.MethodName)) ∈ lw_all := lw_g (lw_at lw_m12 157 rfl) rfl
theorem q3083 : (Jvm.Cond.methodLink "ModulaWorksLaw" (85 : Nat) ({ cls := "ModulaWorksLaw", name := "tell", desc := "(LModulaWorks;[JI)V" } : Jvm.MethodName)) ∈ lw_all := lw_g (lw_at lw_m12 159 rfl) rfl
theorem q3084 : (Jvm.Cond.static ({ cls := "ModulaWorksLaw", name := "tell", desc := "(LModulaWorks;[JI)V" } : Jvm.MethodName)) ∈ lw_all := lw_g (lw_at lw_m12 160 rfl) rfl
theorem q3120 : (Jvm.Cond.methodLink "ModulaWorksLaw" (114 : Nat) ({ cls := "ModulaWorksLaw", name := "step", desc := "([JJ)Z" } : Jvm.MethodName)) ∈ lw_all := lw_g (lw_at lw_m12 196 rfl) rfl
theorem q3121 : (Jvm.Cond.static ({ cls := "ModulaWorksLaw", name := "step", desc := "([JJ)Z" } : Jvm.MethodName)) ∈ lw_all := lw_g (lw_at lw_m12 197 rfl) rfl
theorem q3123 : (Jvm.Cond.methodLink "ModulaWorksLaw" (118 : Nat) ({ cls := "ModulaWorksLaw", name := "act", desc := "([JI)I" } : Jvm.MethodName)) ∈ lw_all := lw_g (lw_at lw_m12 199 rfl) rfl
theorem q3124 : (Jvm.Cond.static ({ cls := "ModulaWorksLaw", name := "act", desc := "([JI)I" } : Jvm.MethodName)) ∈ lw_all := lw_g (lw_at lw_m12 200 rfl) rfl
theorem q3133 : (Jvm.Cond.methodLink "ModulaWorksLaw" (122 : Nat) ({ cls := "ModulaWorksLaw", name := "write", desc := "([J[IJI)V" } : Jvm.MethodName)) ∈ lw_all := lw_g (lw_at lw_m12 209 rfl) rfl
theorem q3134 : (Jvm.Cond.static ({ cls := "ModulaWorksLaw", name := "write", desc := "([J[IJI)V" } : Jvm.MethodName)) ∈ lw_all := lw_g (lw_at lw_m12 210 rfl) rfl
theorem q316 : (Jvm.Cond.methodLink "ModulaWorksLaw" (126 : Nat) ({ cls := "ModulaWorks", name := "<init>", desc := "()V" } : Jvm.MethodName)) ∈ lw_all := lw_g (lw_at lw_m1 32 rfl) rfl
theorem q317 : (Jvm.Cond.instanceMethod ({ cls := "ModulaWorks", name := "<init>", desc := "()V" } : Jvm.MethodName)) ∈ lw_all := lw_g (lw_at lw_m1 33 rfl) rfl
theorem q3074 : (Jvm.Cond.methodLink "ModulaWorksLaw" (151 : Nat) ({ cls := "ModulaWorksLaw", name := "cell", desc := "([II)I" } : Jvm.MethodName)) ∈ lw_all := lw_g (lw_at lw_m12 150 rfl) rfl
theorem q3075 : (Jvm.Cond.static ({ cls := "ModulaWorksLaw", name := "cell", desc := "([II)I" } : Jvm.MethodName)) ∈ lw_all := lw_g (lw_at lw_m12 151 rfl) rfl
theorem q3077 : (Jvm.Cond.methodLink "ModulaWorksLaw" (155 : Nat) ({ cls := "ModulaWorksLaw", name := "tellAll", desc := "(LModulaWorks;[JII[J)V" } : Jvm.MethodName)) ∈ lw_all := lw_g (lw_at lw_m12 153 rfl) rfl
theorem q3078 : (Jvm.Cond.static ({ cls := "ModulaWorksLaw", name := "tellAll", desc := "(LModulaWorks;[JII[J)V" } : Jvm.MethodName)) ∈ lw_all := lw_g (lw_at lw_m12 154 rfl) rfl
theorem q2792 : (Jvm.Cond.methodLink "ModulaWorksLaw" (161 : Nat) ({ cls := "ModulaWorksLaw", name := "compile", desc := "(LModulaWorks;[J)I" } : Jvm.MethodName)) ∈ lw_all := lw_g (lw_at lw_m11 108 rfl) rfl
theorem q2793 : (Jvm.Cond.static ({ cls := "ModulaWorksLaw", name := "compile", desc := "(LModulaWorks;[J)I" } : Jvm.MethodName)) ∈ lw_all := lw_g (lw_at lw_m11 109 rfl) rfl
theorem q1311 : (Jvm.Cond.methodLink "ModulaWorksLaw" (164 : Nat) ({ cls := "ModulaWorks", name := "fault", desc := "(I)I" } : Jvm.MethodName)) ∈ lw_all := lw_g (lw_at lw_m5 67 rfl) rfl
theorem q1312 : (Jvm.Cond.instanceMethod ({ cls := "ModulaWorks", name := "fault", desc := "(I)I" } : Jvm.MethodName)) ∈ lw_all := lw_g (lw_at lw_m5 68 rfl) rfl
theorem q1313 : (Jvm.Cond.selects "ModulaWorks" ({ cls := "ModulaWorks", name := "fault", desc := "(I)I" } : Jvm.MethodName) ({ cls := "ModulaWorks", name := "fault", desc := "(I)I" } : Jvm.MethodName)) ∈ lw_all := lw_g (lw_at lw_m5 69 rfl) rfl
theorem q1315 : (Jvm.Cond.methodLink "ModulaWorksLaw" (167 : Nat) ({ cls := "ModulaWorks", name := "unit", desc := "(II)I" } : Jvm.MethodName)) ∈ lw_all := lw_g (lw_at lw_m5 71 rfl) rfl
theorem q1316 : (Jvm.Cond.instanceMethod ({ cls := "ModulaWorks", name := "unit", desc := "(II)I" } : Jvm.MethodName)) ∈ lw_all := lw_g (lw_at lw_m5 72 rfl) rfl
theorem q1317 : (Jvm.Cond.selects "ModulaWorks" ({ cls := "ModulaWorks", name := "unit", desc := "(II)I" } : Jvm.MethodName) ({ cls := "ModulaWorks", name := "unit", desc := "(II)I" } : Jvm.MethodName)) ∈ lw_all := lw_g (lw_at lw_m5 73 rfl) rfl
theorem q1351 : (Jvm.Cond.methodLink "ModulaWorksLaw" (171 : Nat) ({ cls := "ModulaWorks", name := "link", desc := "(I)I" } : Jvm.MethodName)) ∈ lw_all := lw_g (lw_at lw_m5 107 rfl) rfl
theorem q1352 : (Jvm.Cond.instanceMethod ({ cls := "ModulaWorks", name := "link", desc := "(I)I" } : Jvm.MethodName)) ∈ lw_all := lw_g (lw_at lw_m5 108 rfl) rfl
theorem q1353 : (Jvm.Cond.selects "ModulaWorks" ({ cls := "ModulaWorks", name := "link", desc := "(I)I" } : Jvm.MethodName) ({ cls := "ModulaWorks", name := "link", desc := "(I)I" } : Jvm.MethodName)) ∈ lw_all := lw_g (lw_at lw_m5 109 rfl) rfl
theorem q2490 : (Jvm.Cond.methodLink "ModulaWorksLaw" (174 : Nat) ({ cls := "ModulaWorks", name := "order", desc := "(I)I" } : Jvm.MethodName)) ∈ lw_all := lw_g (lw_at lw_m10 46 rfl) rfl
theorem q2491 : (Jvm.Cond.instanceMethod ({ cls := "ModulaWorks", name := "order", desc := "(I)I" } : Jvm.MethodName)) ∈ lw_all := lw_g (lw_at lw_m10 47 rfl) rfl
theorem q2492 : (Jvm.Cond.selects "ModulaWorks" ({ cls := "ModulaWorks", name := "order", desc := "(I)I" } : Jvm.MethodName) ({ cls := "ModulaWorks", name := "order", desc := "(I)I" } : Jvm.MethodName)) ∈ lw_all := lw_g (lw_at lw_m10 48 rfl) rfl
theorem q2494 : (Jvm.Cond.methodLink "ModulaWorksLaw" (177 : Nat) ({ cls := "ModulaWorks", name := "start", desc := "()Z" } : Jvm.MethodName)) ∈ lw_all := lw_g (lw_at lw_m10 50 rfl) rfl
theorem q2495 : (Jvm.Cond.instanceMethod ({ cls := "ModulaWorks", name := "start", desc := "()Z" } : Jvm.MethodName)) ∈ lw_all := lw_g (lw_at lw_m10 51 rfl) rfl
theorem q2496 : (Jvm.Cond.selects "ModulaWorks" ({ cls := "ModulaWorks", name := "start", desc := "()Z" } : Jvm.MethodName) ({ cls := "ModulaWorks", name := "start", desc := "()Z" } : Jvm.MethodName)) ∈ lw_all := lw_g (lw_at lw_m10 52 rfl) rfl
theorem q3117 : (Jvm.Cond.methodLink "ModulaWorksLaw" (181 : Nat) ({ cls := "ModulaWorksLaw", name := "doAll", desc := "([J[IIIJJ)I" } : Jvm.MethodName)) ∈ lw_all := lw_g (lw_at lw_m12 193 rfl) rfl
theorem q3118 : (Jvm.Cond.static ({ cls := "ModulaWorksLaw", name := "doAll", desc := "([J[IIIJJ)I" } : Jvm.MethodName)) ∈ lw_all := lw_g (lw_at lw_m12 194 rfl) rfl
theorem q2514 : (Jvm.Cond.methodLink "ModulaWorksLaw" (187 : Nat) ({ cls := "ModulaWorks", name := "run", desc := "(I)I" } : Jvm.MethodName)) ∈ lw_all := lw_g (lw_at lw_m10 70 rfl) rfl
theorem q2515 : (Jvm.Cond.instanceMethod ({ cls := "ModulaWorks", name := "run", desc := "(I)I" } : Jvm.MethodName)) ∈ lw_all := lw_g (lw_at lw_m10 71 rfl) rfl
theorem q2516 : (Jvm.Cond.selects "ModulaWorks" ({ cls := "ModulaWorks", name := "run", desc := "(I)I" } : Jvm.MethodName) ({ cls := "ModulaWorks", name := "run", desc := "(I)I" } : Jvm.MethodName)) ∈ lw_all := lw_g (lw_at lw_m10 72 rfl) rfl
theorem q2772 : (Jvm.Cond.methodLink "ModulaWorksLaw" (190 : Nat) ({ cls := "ModulaWorks", name := "look", desc := "(I)I" } : Jvm.MethodName)) ∈ lw_all := lw_g (lw_at lw_m11 88 rfl) rfl
theorem q2773 : (Jvm.Cond.instanceMethod ({ cls := "ModulaWorks", name := "look", desc := "(I)I" } : Jvm.MethodName)) ∈ lw_all := lw_g (lw_at lw_m11 89 rfl) rfl
theorem q2774 : (Jvm.Cond.selects "ModulaWorks" ({ cls := "ModulaWorks", name := "look", desc := "(I)I" } : Jvm.MethodName) ({ cls := "ModulaWorks", name := "look", desc := "(I)I" } : Jvm.MethodName)) ∈ lw_all := lw_g (lw_at lw_m11 90 rfl) rfl
theorem q2768 : (Jvm.Cond.methodLink "ModulaWorksLaw" (193 : Nat) ({ cls := "ModulaWorks", name := "output", desc := "(I)I" } : Jvm.MethodName)) ∈ lw_all := lw_g (lw_at lw_m11 84 rfl) rfl
theorem q2769 : (Jvm.Cond.instanceMethod ({ cls := "ModulaWorks", name := "output", desc := "(I)I" } : Jvm.MethodName)) ∈ lw_all := lw_g (lw_at lw_m11 85 rfl) rfl
theorem q2770 : (Jvm.Cond.selects "ModulaWorks" ({ cls := "ModulaWorks", name := "output", desc := "(I)I" } : Jvm.MethodName) ({ cls := "ModulaWorks", name := "output", desc := "(I)I" } : Jvm.MethodName)) ∈ lw_all := lw_g (lw_at lw_m11 86 rfl) rfl
theorem q1497 : (Jvm.Cond.methodLink "ModulaWorks" (1 : Nat) ({ cls := "java/lang/String", name := "length", desc := "()I" } : Jvm.MethodName)) ∈ lw_all := lw_g (lw_at lw_m6 13 rfl) rfl
theorem q908 : (Jvm.Cond.instanceMethod ({ cls := "java/lang/String", name := "length", desc := "()I" } : Jvm.MethodName)) ∈ lw_all := lw_g (lw_at lw_m3 144 rfl) rfl
theorem q909 : (Jvm.Cond.selects "java/lang/String" ({ cls := "java/lang/String", name := "length", desc := "()I" } : Jvm.MethodName) ({ cls := "java/lang/String", name := "length", desc := "()I" } : Jvm.MethodName)) ∈ lw_all := lw_g (lw_at lw_m3 145 rfl) rfl
theorem q1498 : (Jvm.Cond.methodLink "ModulaWorks" (7 : Nat) ({ cls := "java/lang/String", name := "charAt", desc := "(I)C" } : Jvm.MethodName)) ∈ lw_all := lw_g (lw_at lw_m6 14 rfl) rfl
theorem q918 : (Jvm.Cond.instanceMethod ({ cls := "java/lang/String", name := "charAt", desc := "(I)C" } : Jvm.MethodName)) ∈ lw_all := lw_g (lw_at lw_m3 154 rfl) rfl
theorem q919 : (Jvm.Cond.selects "java/lang/String" ({ cls := "java/lang/String", name := "charAt", desc := "(I)C" } : Jvm.MethodName) ({ cls := "java/lang/String", name := "charAt", desc := "(I)C" } : Jvm.MethodName)) ∈ lw_all := lw_g (lw_at lw_m3 155 rfl) rfl
theorem q1499 : (Jvm.Cond.methodLink "ModulaWorks" (11 : Nat) ({ cls := "ModulaWorks$Text", name := "codeOf", desc := "(I)J" } : Jvm.MethodName)) ∈ lw_all := lw_g (lw_at lw_m6 15 rfl) rfl
theorem q1500 : (Jvm.Cond.static ({ cls := "ModulaWorks$Text", name := "codeOf", desc := "(I)J" } : Jvm.MethodName)) ∈ lw_all := lw_g (lw_at lw_m6 16 rfl) rfl
theorem q319 : (Jvm.Cond.methodLink "ModulaWorks" (26 : Nat) ({ cls := "java/lang/Object", name := "<init>", desc := "()V" } : Jvm.MethodName)) ∈ lw_all := lw_g (lw_at lw_m1 35 rfl) rfl
theorem q324 : (Jvm.Cond.methodLinkNest "ModulaWorks" (38 : Nat) ({ cls := "ModulaWorks$Words", name := "<init>", desc := "()V" } : Jvm.MethodName) "ModulaWorks") ∈ lw_tbl := lw_at lw_m1 40 rfl
theorem q325 : (Jvm.Cond.instanceMethod ({ cls := "ModulaWorks$Words", name := "<init>", desc := "()V" } : Jvm.MethodName)) ∈ lw_all := lw_g (lw_at lw_m1 41 rfl) rfl
theorem q378 : (Jvm.Cond.methodLink "ModulaWorks" (45 : Nat) ({ cls := "ModulaWorks$Shelf", name := "<init>", desc := "(LModulaWorks$Words;)V" } : Jvm.MethodName)) ∈ lw_all := lw_g (lw_at lw_m1 94 rfl) rfl
theorem q379 : (Jvm.Cond.instanceMethod ({ cls := "ModulaWorks$Shelf", name := "<init>", desc := "(LModulaWorks$Words;)V" } : Jvm.MethodName)) ∈ lw_all := lw_g (lw_at lw_m1 95 rfl) rfl
theorem q512 : (Jvm.Cond.methodLinkNest "ModulaWorks" (54 : Nat) ({ cls := "ModulaWorks$Form", name := "<init>", desc := "()V" } : Jvm.MethodName) "ModulaWorks") ∈ lw_tbl := lw_at lw_m1 228 rfl
theorem q513 : (Jvm.Cond.instanceMethod ({ cls := "ModulaWorks$Form", name := "<init>", desc := "()V" } : Jvm.MethodName)) ∈ lw_all := lw_g (lw_at lw_m1 229 rfl) rfl
theorem q596 : (Jvm.Cond.methodLink "ModulaWorks" (61 : Nat) ({ cls := "ModulaWorks$Sense", name := "<init>", desc := "(LModulaWorks$Shelf;)V" } : Jvm.MethodName)) ∈ lw_all := lw_g (lw_at lw_m2 72 rfl) rfl
theorem q597 : (Jvm.Cond.instanceMethod ({ cls := "ModulaWorks$Sense", name := "<init>", desc := "(LModulaWorks$Shelf;)V" } : Jvm.MethodName)) ∈ lw_all := lw_g (lw_at lw_m2 73 rfl) rfl
theorem q833 : (Jvm.Cond.methodLink "ModulaWorks" (70 : Nat) ({ cls := "ModulaWorks$Kernel", name := "<init>", desc := "()V" } : Jvm.MethodName)) ∈ lw_all := lw_g (lw_at lw_m3 69 rfl) rfl
theorem q834 : (Jvm.Cond.instanceMethod ({ cls := "ModulaWorks$Kernel", name := "<init>", desc := "()V" } : Jvm.MethodName)) ∈ lw_all := lw_g (lw_at lw_m3 70 rfl) rfl
theorem q1098 : (Jvm.Cond.methodLinkNest "ModulaWorks" (77 : Nat) ({ cls := "ModulaWorks$Program", name := "<init>", desc := "()V" } : Jvm.MethodName) "ModulaWorks") ∈ lw_tbl := lw_at lw_m4 94 rfl
theorem q1099 : (Jvm.Cond.instanceMethod ({ cls := "ModulaWorks$Program", name := "<init>", desc := "()V" } : Jvm.MethodName)) ∈ lw_all := lw_g (lw_at lw_m4 95 rfl) rfl
theorem q1222 : (Jvm.Cond.methodLink "ModulaWorks" (84 : Nat) ({ cls := "ModulaWorks$Unit", name := "<init>", desc := "(LModulaWorks$Words;)V" } : Jvm.MethodName)) ∈ lw_all := lw_g (lw_at lw_m4 218 rfl) rfl
theorem q386 : (Jvm.Cond.instanceMethod ({ cls := "ModulaWorks$Unit", name := "<init>", desc := "(LModulaWorks$Words;)V" } : Jvm.MethodName)) ∈ lw_all := lw_g (lw_at lw_m1 102 rfl) rfl
theorem q1225 : (Jvm.Cond.methodLinkNest "ModulaWorks" (106 : Nat) ({ cls := "ModulaWorks$Plugs", name := "<init>", desc := "()V" } : Jvm.MethodName) "ModulaWorks") ∈ lw_tbl := lw_at lw_m4 221 rfl
theorem q1226 : (Jvm.Cond.instanceMethod ({ cls := "ModulaWorks$Plugs", name := "<init>", desc := "()V" } : Jvm.MethodName)) ∈ lw_all := lw_g (lw_at lw_m4 222 rfl) rfl
theorem q1240 : (Jvm.Cond.methodLink "ModulaWorks" (113 : Nat) ({ cls := "ModulaWorks$Chip", name := "<init>", desc := "(LModulaWorks$Ports;)V" } : Jvm.MethodName)) ∈ lw_all := lw_g (lw_at lw_m4 236 rfl) rfl
theorem q1105 : (Jvm.Cond.instanceMethod ({ cls := "ModulaWorks$Chip", name := "<init>", desc := "(LModulaWorks$Ports;)V" } : Jvm.MethodName)) ∈ lw_all := lw_g (lw_at lw_m4 101 rfl) rfl
theorem q2788 : (Jvm.Cond.methodLink "ModulaWorks" (123 : Nat) ({ cls := "ModulaWorks", name := "tapeFour", desc := "(I)V" } : Jvm.MethodName)) ∈ lw_all := lw_g (lw_at lw_m11 104 rfl) rfl
theorem q2790 : (Jvm.Cond.instanceMethod ({ cls := "ModulaWorks", name := "tapeFour", desc := "(I)V" } : Jvm.MethodName)) ∈ lw_all := lw_g (lw_at lw_m11 106 rfl) rfl
theorem q2799 : (Jvm.Cond.methodLink "ModulaWorks" (138 : Nat) ({ cls := "ModulaWorks$Text", name := "take", desc := "([BI)V" } : Jvm.MethodName)) ∈ lw_all := lw_g (lw_at lw_m11 115 rfl) rfl
theorem q2800 : (Jvm.Cond.instanceMethod ({ cls := "ModulaWorks$Text", name := "take", desc := "([BI)V" } : Jvm.MethodName)) ∈ lw_all := lw_g (lw_at lw_m11 116 rfl) rfl
theorem q2801 : (Jvm.Cond.selects "ModulaWorks$Text" ({ cls := "ModulaWorks$Text", name := "take", desc := "([BI)V" } : Jvm.MethodName) ({ cls := "ModulaWorks$Text", name := "take", desc := "([BI)V" } : Jvm.MethodName)) ∈ lw_all := lw_g (lw_at lw_m11 117 rfl) rfl
theorem q2803 : (Jvm.Cond.methodLink "ModulaWorks" (142 : Nat) ({ cls := "ModulaWorks$Text", name := "read", desc := "()V" } : Jvm.MethodName)) ∈ lw_all := lw_g (lw_at lw_m11 119 rfl) rfl
theorem q2804 : (Jvm.Cond.instanceMethod ({ cls := "ModulaWorks$Text", name := "read", desc := "()V" } : Jvm.MethodName)) ∈ lw_all := lw_g (lw_at lw_m11 120 rfl) rfl
theorem q2805 : (Jvm.Cond.selects "ModulaWorks$Text" ({ cls := "ModulaWorks$Text", name := "read", desc := "()V" } : Jvm.MethodName) ({ cls := "ModulaWorks$Text", name := "read", desc := "()V" } : Jvm.MethodName)) ∈ lw_all := lw_g (lw_at lw_m11 121 rfl) rfl
theorem q2871 : (Jvm.Cond.methodLink "ModulaWorks" (145 : Nat) ({ cls := "ModulaWorks$Form", name := "isUnit", desc := "(LModulaWorks$Text;)Z" } : Jvm.MethodName)) ∈ lw_all := lw_g (lw_at lw_m11 187 rfl) rfl
theorem q2872 : (Jvm.Cond.instanceMethod ({ cls := "ModulaWorks$Form", name := "isUnit", desc := "(LModulaWorks$Text;)Z" } : Jvm.MethodName)) ∈ lw_all := lw_g (lw_at lw_m11 188 rfl) rfl
theorem q2873 : (Jvm.Cond.selects "ModulaWorks$Form" ({ cls := "ModulaWorks$Form", name := "isUnit", desc := "(LModulaWorks$Text;)Z" } : Jvm.MethodName) ({ cls := "ModulaWorks$Form", name := "isUnit", desc := "(LModulaWorks$Text;)Z" } : Jvm.MethodName)) ∈ lw_all := lw_g (lw_at lw_m11 189 rfl) rfl
theorem q3027 : (Jvm.Cond.methodLink "ModulaWorks" (159 : Nat) ({ cls := "ModulaWorks", name := "fails", desc := "(II)I" } : Jvm.MethodName)) ∈ lw_all := lw_g (lw_at lw_m12 103 rfl) rfl
theorem q3029 : (Jvm.Cond.instanceMethod ({ cls := "ModulaWorks", name := "fails", desc := "(II)I" } : Jvm.MethodName)) ∈ lw_all := lw_g (lw_at lw_m12 105 rfl) rfl
theorem q3031 : (Jvm.Cond.methodLink "ModulaWorks" (163 : Nat) ({ cls := "ModulaWorks$Unit", name := "readHead", desc := "()V" } : Jvm.MethodName)) ∈ lw_all := lw_g (lw_at lw_m12 107 rfl) rfl
theorem q3032 : (Jvm.Cond.instanceMethod ({ cls := "ModulaWorks$Unit", name := "readHead", desc := "()V" } : Jvm.MethodName)) ∈ lw_all := lw_g (lw_at lw_m12 108 rfl) rfl
theorem q3033 : (Jvm.Cond.selects "ModulaWorks$Unit" ({ cls := "ModulaWorks$Unit", name := "readHead", desc := "()V" } : Jvm.MethodName) ({ cls := "ModulaWorks$Unit", name := "readHead", desc := "()V" } : Jvm.MethodName)) ∈ lw_all := lw_g (lw_at lw_m12 109 rfl) rfl
theorem q3049 : (Jvm.Cond.methodLinkNest "ModulaWorks" (172 : Nat) ({ cls := "ModulaWorks$Shelf", name := "bytesNeeded", desc := "(LModulaWorks$Unit;I)I" } : Jvm.MethodName) "ModulaWorks") ∈ lw_tbl := lw_at lw_m12 125 rfl
theorem q3051 : (Jvm.Cond.instanceMethod ({ cls := "ModulaWorks$Shelf", name := "bytesNeeded", desc := "(LModulaWorks$Unit;I)I" } : Jvm.MethodName)) ∈ lw_all := lw_g (lw_at lw_m12 127 rfl) rfl
theorem q3058 : (Jvm.Cond.methodLink "ModulaWorks" (176 : Nat) ({ cls := "ModulaWorks$Sense", name := "isRight", desc := "(LModulaWorks$Unit;)Z" } : Jvm.MethodName)) ∈ lw_all := lw_g (lw_at lw_m12 134 rfl) rfl
theorem q3059 : (Jvm.Cond.instanceMethod ({ cls := "ModulaWorks$Sense", name := "isRight", desc := "(LModulaWorks$Unit;)Z" } : Jvm.MethodName)) ∈ lw_all := lw_g (lw_at lw_m12 135 rfl) rfl
theorem q3060 : (Jvm.Cond.selects "ModulaWorks$Sense" ({ cls := "ModulaWorks$Sense", name := "isRight", desc := "(LModulaWorks$Unit;)Z" } : Jvm.MethodName) ({ cls := "ModulaWorks$Sense", name := "isRight", desc := "(LModulaWorks$Unit;)Z" } : Jvm.MethodName)) ∈ lw_all := lw_g (lw_at lw_m12 136 rfl) rfl
theorem q3062 : (Jvm.Cond.methodLink "ModulaWorks" (184 : Nat) ({ cls := "ModulaWorks", name := "tellKeys", desc := "(LModulaWorks$Unit;)V" } : Jvm.MethodName)) ∈ lw_all := lw_g (lw_at lw_m12 138 rfl) rfl
theorem q3064 : (Jvm.Cond.instanceMethod ({ cls := "ModulaWorks", name := "tellKeys", desc := "(LModulaWorks$Unit;)V" } : Jvm.MethodName)) ∈ lw_all := lw_g (lw_at lw_m12 140 rfl) rfl
theorem q1366 : (Jvm.Cond.methodLink "ModulaWorks" (197 : Nat) ({ cls := "ModulaWorks$Shelf", name := "find", desc := "(IJJ)I" } : Jvm.MethodName)) ∈ lw_all := lw_g (lw_at lw_m5 122 rfl) rfl
theorem q1343 : (Jvm.Cond.instanceMethod ({ cls := "ModulaWorks$Shelf", name := "find", desc := "(IJJ)I" } : Jvm.MethodName)) ∈ lw_all := lw_g (lw_at lw_m5 99 rfl) rfl
theorem q1344 : (Jvm.Cond.selects "ModulaWorks$Shelf" ({ cls := "ModulaWorks$Shelf", name := "find", desc := "(IJJ)I" } : Jvm.MethodName) ({ cls := "ModulaWorks$Shelf", name := "find", desc := "(IJJ)I" } : Jvm.MethodName)) ∈ lw_all := lw_g (lw_at lw_m5 100 rfl) rfl
theorem q3066 : (Jvm.Cond.methodLink "ModulaWorks" (207 : Nat) ({ cls := "ModulaWorks$Unit", name := "name", desc := "(JJ)V" } : Jvm.MethodName)) ∈ lw_all := lw_g (lw_at lw_m12 142 rfl) rfl
theorem q3036 : (Jvm.Cond.instanceMethod ({ cls := "ModulaWorks$Unit", name := "name", desc := "(JJ)V" } : Jvm.MethodName)) ∈ lw_all := lw_g (lw_at lw_m12 112 rfl) rfl
theorem q3037 : (Jvm.Cond.selects "ModulaWorks$Unit" ({ cls := "ModulaWorks$Unit", name := "name", desc := "(JJ)V" } : Jvm.MethodName) ({ cls := "ModulaWorks$Unit", name := "name", desc := "(JJ)V" } : Jvm.MethodName)) ∈ lw_all := lw_g (lw_at lw_m12 113 rfl) rfl
theorem q1319 : (Jvm.Cond.methodLink "ModulaWorks" (239 : Nat) ({ cls := "ModulaWorks", name := "isUnit", desc := "(I)Z" } : Jvm.MethodName)) ∈ lw_all := lw_g (lw_at lw_m5 75 rfl) rfl
theorem q1321 : (Jvm.Cond.instanceMethod ({ cls := "ModulaWorks", name := "isUnit", desc := "(I)Z" } : Jvm.MethodName)) ∈ lw_all := lw_g (lw_at lw_m5 77 rfl) rfl
theorem q1355 : (Jvm.Cond.methodLink "ModulaWorks" (255 : Nat) ({ cls := "ModulaWorks", name := "meet", desc := "(LModulaWorks$Unit;)V" } : Jvm.MethodName)) ∈ lw_all := lw_g (lw_at lw_m5 111 rfl) rfl
theorem q1357 : (Jvm.Cond.instanceMethod ({ cls := "ModulaWorks", name := "meet", desc := "(LModulaWorks$Unit;)V" } : Jvm.MethodName)) ∈ lw_all := lw_g (lw_at lw_m5 113 rfl) rfl
theorem q1359 : (Jvm.Cond.methodLinkNest "ModulaWorks" (270 : Nat) ({ cls := "ModulaWorks$Shelf", name := "hasKeys", desc := "(LModulaWorks$Unit;Z)Z" } : Jvm.MethodName) "ModulaWorks") ∈ lw_tbl := lw_at lw_m5 115 rfl
theorem q1329 : (Jvm.Cond.instanceMethod ({ cls := "ModulaWorks$Shelf", name := "hasKeys", desc := "(LModulaWorks$Unit;Z)Z" } : Jvm.MethodName)) ∈ lw_all := lw_g (lw_at lw_m5 85 rfl) rfl
theorem q1367 : (Jvm.Cond.methodLink "ModulaWorks" (277 : Nat) ({ cls := "ModulaWorks$Sense", name := "layAll", desc := "([LModulaWorks$Unit;I[I)I" } : Jvm.MethodName)) ∈ lw_all := lw_g (lw_at lw_m5 123 rfl) rfl
theorem q1368 : (Jvm.Cond.instanceMethod ({ cls := "ModulaWorks$Sense", name := "layAll", desc := "([LModulaWorks$Unit;I[I)I" } : Jvm.MethodName)) ∈ lw_all := lw_g (lw_at lw_m5 124 rfl) rfl
theorem q1369 : (Jvm.Cond.selects "ModulaWorks$Sense" ({ cls := "ModulaWorks$Sense", name := "layAll", desc := "([LModulaWorks$Unit;I[I)I" } : Jvm.MethodName) ({ cls := "ModulaWorks$Sense", name := "layAll", desc := "([LModulaWorks$Unit;I[I)I" } : Jvm.MethodName)) ∈ lw_all := lw_g (lw_at lw_m5 125 rfl) rfl
theorem q2486 : (Jvm.Cond.methodLink "ModulaWorks" (288 : Nat) ({ cls := "java/lang/System", name := "arraycopy", desc := "(Ljava/lang/Object;ILjava/lang/Object;II)V" } : Jvm.MethodName)) ∈ lw_all := lw_g (lw_at lw_m10 42 rfl) rfl
theorem q2498 : (Jvm.Cond.methodLink "ModulaWorks" (322 : Nat) ({ cls := "ModulaWorks$Program", name := "start", desc := "()V" } : Jvm.MethodName)) ∈ lw_all := lw_g (lw_at lw_m10 54 rfl) rfl
theorem q2499 : (Jvm.Cond.instanceMethod ({ cls := "ModulaWorks$Program", name := "start", desc := "()V" } : Jvm.MethodName)) ∈ lw_all := lw_g (lw_at lw_m10 55 rfl) rfl
theorem q2500 : (Jvm.Cond.selects "ModulaWorks$Program" ({ cls := "ModulaWorks$Program", name := "start", desc := "()V" } : Jvm.MethodName) ({ cls := "ModulaWorks$Program", name := "start", desc := "()V" } : Jvm.MethodName)) ∈ lw_all := lw_g (lw_at lw_m10 56 rfl) rfl
theorem q2518 : (Jvm.Cond.methodLink "ModulaWorks" (328 : Nat) ({ cls := "ModulaWorks$Program", name := "run", desc := "(I)I" } : Jvm.MethodName)) ∈ lw_all := lw_g (lw_at lw_m10 74 rfl) rfl
theorem q2519 : (Jvm.Cond.instanceMethod ({ cls := "ModulaWorks$Program", name := "run", desc := "(I)I" } : Jvm.MethodName)) ∈ lw_all := lw_g (lw_at lw_m10 75 rfl) rfl
theorem q2520 : (Jvm.Cond.selects "ModulaWorks$Program" ({ cls := "ModulaWorks$Program", name := "run", desc := "(I)I" } : Jvm.MethodName) ({ cls := "ModulaWorks$Program", name := "run", desc := "(I)I" } : Jvm.MethodName)) ∈ lw_all := lw_g (lw_at lw_m10 76 rfl) rfl
theorem q2776 : (Jvm.Cond.methodLink "ModulaWorks" (338 : Nat) ({ cls := "ModulaWorks$Program", name := "look", desc := "(I)I" } : Jvm.MethodName)) ∈ lw_all := lw_g (lw_at lw_m11 92 rfl) rfl
theorem q2777 : (Jvm.Cond.instanceMethod ({ cls := "ModulaWorks$Program", name := "look", desc := "(I)I" } : Jvm.MethodName)) ∈ lw_all := lw_g (lw_at lw_m11 93 rfl) rfl
theorem q2778 : (Jvm.Cond.selects "ModulaWorks$Program" ({ cls := "ModulaWorks$Program", name := "look", desc := "(I)I" } : Jvm.MethodName) ({ cls := "ModulaWorks$Program", name := "look", desc := "(I)I" } : Jvm.MethodName)) ∈ lw_all := lw_g (lw_at lw_m11 94 rfl) rfl
theorem q327 : (Jvm.Cond.methodLink "ModulaWorks$Words" (1 : Nat) ({ cls := "java/lang/Object", name := "<init>", desc := "()V" } : Jvm.MethodName)) ∈ lw_all := lw_g (lw_at lw_m1 43 rfl) rfl
theorem q381 : (Jvm.Cond.methodLink "ModulaWorks$Shelf" (3 : Nat) ({ cls := "java/lang/Object", name := "<init>", desc := "()V" } : Jvm.MethodName)) ∈ lw_all := lw_g (lw_at lw_m1 97 rfl) rfl
theorem q385 : (Jvm.Cond.methodLink "ModulaWorks$Shelf" (17 : Nat) ({ cls := "ModulaWorks$Unit", name := "<init>", desc := "(LModulaWorks$Words;)V" } : Jvm.MethodName)) ∈ lw_all := lw_g (lw_at lw_m1 101 rfl) rfl
theorem q1346 : (Jvm.Cond.methodLink "ModulaWorks$Shelf" (20 : Nat) ({ cls := "ModulaWorks$Unit", name := "is", desc := "(IJJ)Z" } : Jvm.MethodName)) ∈ lw_all := lw_g (lw_at lw_m5 102 rfl) rfl
theorem q1347 : (Jvm.Cond.instanceMethod ({ cls := "ModulaWorks$Unit", name := "is", desc := "(IJJ)Z" } : Jvm.MethodName)) ∈ lw_all := lw_g (lw_at lw_m5 103 rfl) rfl
theorem q1348 : (Jvm.Cond.selects "ModulaWorks$Unit" ({ cls := "ModulaWorks$Unit", name := "is", desc := "(IJJ)Z" } : Jvm.MethodName) ({ cls := "ModulaWorks$Unit", name := "is", desc := "(IJJ)Z" } : Jvm.MethodName)) ∈ lw_all := lw_g (lw_at lw_m5 104 rfl) rfl
theorem q1331 : (Jvm.Cond.methodLinkNest "ModulaWorks$Shelf" (39 : Nat) ({ cls := "ModulaWorks", name := "isSystem", desc := "(JJ)Z" } : Jvm.MethodName) "ModulaWorks") ∈ lw_tbl := lw_at lw_m5 87 rfl
theorem q1332 : (Jvm.Cond.static ({ cls := "ModulaWorks", name := "isSystem", desc := "(JJ)Z" } : Jvm.MethodName)) ∈ lw_all := lw_g (lw_at lw_m5 88 rfl) rfl
theorem q388 : (Jvm.Cond.methodLink "ModulaWorks$Unit" (3 : Nat) ({ cls := "java/lang/Object", name := "<init>", desc := "()V" } : Jvm.MethodName)) ∈ lw_all := lw_g (lw_at lw_m1 104 rfl) rfl
theorem q391 : (Jvm.Cond.methodLink "ModulaWorks$Unit" (24 : Nat) ({ cls := "ModulaWorks$Text", name := "<init>", desc := "(LModulaWorks$Words;)V" } : Jvm.MethodName)) ∈ lw_all := lw_g (lw_at lw_m1 107 rfl) rfl
theorem q392 : (Jvm.Cond.instanceMethod ({ cls := "ModulaWorks$Text", name := "<init>", desc := "(LModulaWorks$Words;)V" } : Jvm.MethodName)) ∈ lw_all := lw_g (lw_at lw_m1 108 rfl) rfl
theorem q3039 : (Jvm.Cond.methodLink "ModulaWorks$Unit" (49 : Nat) ({ cls := "ModulaWorks$Unit", name := "names", desc := "(JJ)Z" } : Jvm.MethodName)) ∈ lw_all := lw_g (lw_at lw_m12 115 rfl) rfl
theorem q3040 : (Jvm.Cond.instanceMethod ({ cls := "ModulaWorks$Unit", name := "names", desc := "(JJ)Z" } : Jvm.MethodName)) ∈ lw_all := lw_g (lw_at lw_m12 116 rfl) rfl
theorem q3041 : (Jvm.Cond.selects "ModulaWorks$Unit" ({ cls := "ModulaWorks$Unit", name := "names", desc := "(JJ)Z" } : Jvm.MethodName) ({ cls := "ModulaWorks$Unit", name := "names", desc := "(JJ)Z" } : Jvm.MethodName)) ∈ lw_all := lw_g (lw_at lw_m12 117 rfl) rfl
theorem q3043 : (Jvm.Cond.methodLinkNest "ModulaWorks$Unit" (53 : Nat) ({ cls := "ModulaWorks", name := "isSystem", desc := "(JJ)Z" } : Jvm.MethodName) "ModulaWorks") ∈ lw_tbl := lw_at lw_m12 119 rfl
theorem q3035 : (Jvm.Cond.methodLink "ModulaWorks$Unit" (73 : Nat) ({ cls := "ModulaWorks$Unit", name := "name", desc := "(JJ)V" } : Jvm.MethodName)) ∈ lw_all := lw_g (lw_at lw_m12 111 rfl) rfl
theorem q394 : (Jvm.Cond.methodLink "ModulaWorks$Text" (3 : Nat) ({ cls := "java/lang/Object", name := "<init>", desc := "()V" } : Jvm.MethodName)) ∈ lw_all := lw_g (lw_at lw_m1 110 rfl) rfl
theorem q1502 : (Jvm.Cond.methodLink "ModulaWorks$Text" (37 : Nat) ({ cls := "ModulaWorks$Text", name := "isDigit", desc := "(I)Z" } : Jvm.MethodName)) ∈ lw_all := lw_g (lw_at lw_m6 18 rfl) rfl
theorem q1503 : (Jvm.Cond.static ({ cls := "ModulaWorks$Text", name := "isDigit", desc := "(I)Z" } : Jvm.MethodName)) ∈ lw_all := lw_g (lw_at lw_m6 19 rfl) rfl
theorem q2807 : (Jvm.Cond.methodLink "ModulaWorks$Text" (44 : Nat) ({ cls := "ModulaWorks$Text", name := "behindBlanks", desc := "(I)I" } : Jvm.MethodName)) ∈ lw_all := lw_g (lw_at lw_m11 123 rfl) rfl
theorem q2809 : (Jvm.Cond.instanceMethod ({ cls := "ModulaWorks$Text", name := "behindBlanks", desc := "(I)I" } : Jvm.MethodName)) ∈ lw_all := lw_g (lw_at lw_m11 125 rfl) rfl
theorem q2816 : (Jvm.Cond.methodLink "ModulaWorks$Text" (48 : Nat) ({ cls := "ModulaWorks$Text", name := "add", desc := "(IIJJ)V" } : Jvm.MethodName)) ∈ lw_all := lw_g (lw_at lw_m11 132 rfl) rfl
theorem q2818 : (Jvm.Cond.instanceMethod ({ cls := "ModulaWorks$Text", name := "add", desc := "(IIJJ)V" } : Jvm.MethodName)) ∈ lw_all := lw_g (lw_at lw_m11 134 rfl) rfl
theorem q2811 : (Jvm.Cond.methodLink "ModulaWorks$Text" (52 : Nat) ({ cls := "ModulaWorks$Text", name := "at", desc := "(I)I" } : Jvm.MethodName)) ∈ lw_all := lw_g (lw_at lw_m11 127 rfl) rfl
theorem q1796 : (Jvm.Cond.instanceMethod ({ cls := "ModulaWorks$Text", name := "at", desc := "(I)I" } : Jvm.MethodName)) ∈ lw_all := lw_g (lw_at lw_m7 72 rfl) rfl
theorem q2820 : (Jvm.Cond.methodLink "ModulaWorks$Text" (55 : Nat) ({ cls := "ModulaWorks$Text", name := "isLetter", desc := "(I)Z" } : Jvm.MethodName)) ∈ lw_all := lw_g (lw_at lw_m11 136 rfl) rfl
theorem q2821 : (Jvm.Cond.static ({ cls := "ModulaWorks$Text", name := "isLetter", desc := "(I)Z" } : Jvm.MethodName)) ∈ lw_all := lw_g (lw_at lw_m11 137 rfl) rfl
theorem q2823 : (Jvm.Cond.methodLink "ModulaWorks$Text" (58 : Nat) ({ cls := "ModulaWorks$Text", name := "word", desc := "(I)I" } : Jvm.MethodName)) ∈ lw_all := lw_g (lw_at lw_m11 139 rfl) rfl
theorem q2825 : (Jvm.Cond.instanceMethod ({ cls := "ModulaWorks$Text", name := "word", desc := "(I)I" } : Jvm.MethodName)) ∈ lw_all := lw_g (lw_at lw_m11 141 rfl) rfl
theorem q2846 : (Jvm.Cond.methodLink "ModulaWorks$Text" (61 : Nat) ({ cls := "ModulaWorks$Text", name := "number", desc := "(I)I" } : Jvm.MethodName)) ∈ lw_all := lw_g (lw_at lw_m11 162 rfl) rfl
theorem q2848 : (Jvm.Cond.instanceMethod ({ cls := "ModulaWorks$Text", name := "number", desc := "(I)I" } : Jvm.MethodName)) ∈ lw_all := lw_g (lw_at lw_m11 164 rfl) rfl
theorem q2863 : (Jvm.Cond.methodLink "ModulaWorks$Text" (67 : Nat) ({ cls := "ModulaWorks$Text", name := "sign", desc := "(I)I" } : Jvm.MethodName)) ∈ lw_all := lw_g (lw_at lw_m11 179 rfl) rfl
theorem q2865 : (Jvm.Cond.instanceMethod ({ cls := "ModulaWorks$Text", name := "sign", desc := "(I)I" } : Jvm.MethodName)) ∈ lw_all := lw_g (lw_at lw_m11 181 rfl) rfl
theorem q2827 : (Jvm.Cond.methodLink "ModulaWorks$Text" (73 : Nat) ({ cls := "ModulaWorks$Text", name := "codeOf", desc := "(I)J" } : Jvm.MethodName)) ∈ lw_all := lw_g (lw_at lw_m11 143 rfl) rfl
theorem q2832 : (Jvm.Cond.methodLink "ModulaWorks$Text" (80 : Nat) ({ cls := "ModulaWorks$Text", name := "reserved", desc := "(II)I" } : Jvm.MethodName)) ∈ lw_all := lw_g (lw_at lw_m11 148 rfl) rfl
theorem q2834 : (Jvm.Cond.instanceMethod ({ cls := "ModulaWorks$Text", name := "reserved", desc := "(II)I" } : Jvm.MethodName)) ∈ lw_all := lw_g (lw_at lw_m11 150 rfl) rfl
theorem q2836 : (Jvm.Cond.methodLink "ModulaWorks$Text" (84 : Nat) ({ cls := "ModulaWorks$Words", name := "many", desc := "()I" } : Jvm.MethodName)) ∈ lw_all := lw_g (lw_at lw_m11 152 rfl) rfl
theorem q2837 : (Jvm.Cond.instanceMethod ({ cls := "ModulaWorks$Words", name := "many", desc := "()I" } : Jvm.MethodName)) ∈ lw_all := lw_g (lw_at lw_m11 153 rfl) rfl
theorem q2838 : (Jvm.Cond.selects "ModulaWorks$Words" ({ cls := "ModulaWorks$Words", name := "many", desc := "()I" } : Jvm.MethodName) ({ cls := "ModulaWorks$Words", name := "many", desc := "()I" } : Jvm.MethodName)) ∈ lw_all := lw_g (lw_at lw_m11 154 rfl) rfl
theorem q2840 : (Jvm.Cond.methodLink "ModulaWorks$Text" (90 : Nat) ({ cls := "ModulaWorks$Words", name := "at", desc := "(I)Ljava/lang/String;" } : Jvm.MethodName)) ∈ lw_all := lw_g (lw_at lw_m11 156 rfl) rfl
theorem q2841 : (Jvm.Cond.instanceMethod ({ cls := "ModulaWorks$Words", name := "at", desc := "(I)Ljava/lang/String;" } : Jvm.MethodName)) ∈ lw_all := lw_g (lw_at lw_m11 157 rfl) rfl
theorem q2842 : (Jvm.Cond.selects "ModulaWorks$Words" ({ cls := "ModulaWorks$Words", name := "at", desc := "(I)Ljava/lang/String;" } : Jvm.MethodName) ({ cls := "ModulaWorks$Words", name := "at", desc := "(I)Ljava/lang/String;" } : Jvm.MethodName)) ∈ lw_all := lw_g (lw_at lw_m11 158 rfl) rfl
theorem q2844 : (Jvm.Cond.methodLink "ModulaWorks$Text" (93 : Nat) ({ cls := "java/lang/String", name := "length", desc := "()I" } : Jvm.MethodName)) ∈ lw_all := lw_g (lw_at lw_m11 160 rfl) rfl
theorem q2845 : (Jvm.Cond.methodLink "ModulaWorks$Text" (98 : Nat) ({ cls := "java/lang/String", name := "charAt", desc := "(I)C" } : Jvm.MethodName)) ∈ lw_all := lw_g (lw_at lw_m11 161 rfl) rfl
theorem q2850 : (Jvm.Cond.methodLink "ModulaWorks$Text" (102 : Nat) ({ cls := "ModulaWorks$Text", name := "isHigh", desc := "(I)Z" } : Jvm.MethodName)) ∈ lw_all := lw_g (lw_at lw_m11 166 rfl) rfl
theorem q2851 : (Jvm.Cond.static ({ cls := "ModulaWorks$Text", name := "isHigh", desc := "(I)Z" } : Jvm.MethodName)) ∈ lw_all := lw_g (lw_at lw_m11 167 rfl) rfl
theorem q2853 : (Jvm.Cond.methodLink "ModulaWorks$Text" (105 : Nat) ({ cls := "ModulaWorks$Text", name := "value", desc := "(IIIII)I" } : Jvm.MethodName)) ∈ lw_all := lw_g (lw_at lw_m11 169 rfl) rfl
theorem q2855 : (Jvm.Cond.instanceMethod ({ cls := "ModulaWorks$Text", name := "value", desc := "(IIIII)I" } : Jvm.MethodName)) ∈ lw_all := lw_g (lw_at lw_m11 171 rfl) rfl
theorem q2867 : (Jvm.Cond.methodLink "ModulaWorks$Text" (115 : Nat) ({ cls := "ModulaWorks$Text", name := "signOf", desc := "(I)I" } : Jvm.MethodName)) ∈ lw_all := lw_g (lw_at lw_m11 183 rfl) rfl
theorem q2868 : (Jvm.Cond.static ({ cls := "ModulaWorks$Text", name := "signOf", desc := "(I)I" } : Jvm.MethodName)) ∈ lw_all := lw_g (lw_at lw_m11 184 rfl) rfl
theorem q515 : (Jvm.Cond.methodLink "ModulaWorks$Form" (3 : Nat) ({ cls := "java/lang/Object", name := "<init>", desc := "()V" } : Jvm.MethodName)) ∈ lw_all := lw_g (lw_at lw_m1 231 rfl) rfl
theorem q555 : (Jvm.Cond.methodLink "ModulaWorks$Form" (11 : Nat) ({ cls := "ModulaWorks$Wrong", name := "<init>", desc := "()V" } : Jvm.MethodName)) ∈ lw_all := lw_g (lw_at lw_m2 31 rfl) rfl
theorem q556 : (Jvm.Cond.instanceMethod ({ cls := "ModulaWorks$Wrong", name := "<init>", desc := "()V" } : Jvm.MethodName)) ∈ lw_all := lw_g (lw_at lw_m2 32 rfl) rfl
theorem q2883 : (Jvm.Cond.methodLink "ModulaWorks$Form" (32 : Nat) ({ cls := "ModulaWorks$Form", name := "is", desc := "(I)Z" } : Jvm.MethodName)) ∈ lw_all := lw_g (lw_at lw_m11 199 rfl) rfl
theorem q2885 : (Jvm.Cond.instanceMethod ({ cls := "ModulaWorks$Form", name := "is", desc := "(I)Z" } : Jvm.MethodName)) ∈ lw_all := lw_g (lw_at lw_m11 201 rfl) rfl
theorem q2879 : (Jvm.Cond.methodLink "ModulaWorks$Form" (36 : Nat) ({ cls := "ModulaWorks$Form", name := "takes", desc := "(I)Z" } : Jvm.MethodName)) ∈ lw_all := lw_g (lw_at lw_m11 195 rfl) rfl
theorem q2881 : (Jvm.Cond.instanceMethod ({ cls := "ModulaWorks$Form", name := "takes", desc := "(I)Z" } : Jvm.MethodName)) ∈ lw_all := lw_g (lw_at lw_m11 197 rfl) rfl
theorem q2875 : (Jvm.Cond.methodLink "ModulaWorks$Form" (42 : Nat) ({ cls := "ModulaWorks$Form", name := "unit", desc := "()V" } : Jvm.MethodName)) ∈ lw_all := lw_g (lw_at lw_m11 191 rfl) rfl
theorem q2877 : (Jvm.Cond.instanceMethod ({ cls := "ModulaWorks$Form", name := "unit", desc := "()V" } : Jvm.MethodName)) ∈ lw_all := lw_g (lw_at lw_m11 193 rfl) rfl
theorem q2887 : (Jvm.Cond.methodLink "ModulaWorks$Form" (45 : Nat) ({ cls := "ModulaWorks$Form", name := "opens", desc := "(I)V" } : Jvm.MethodName)) ∈ lw_all := lw_g (lw_at lw_m11 203 rfl) rfl
theorem q2889 : (Jvm.Cond.instanceMethod ({ cls := "ModulaWorks$Form", name := "opens", desc := "(I)V" } : Jvm.MethodName)) ∈ lw_all := lw_g (lw_at lw_m11 205 rfl) rfl
theorem q2891 : (Jvm.Cond.methodLink "ModulaWorks$Form" (49 : Nat) ({ cls := "ModulaWorks$Form", name := "must", desc := "(I)V" } : Jvm.MethodName)) ∈ lw_all := lw_g (lw_at lw_m11 207 rfl) rfl
theorem q2893 : (Jvm.Cond.instanceMethod ({ cls := "ModulaWorks$Form", name := "must", desc := "(I)V" } : Jvm.MethodName)) ∈ lw_all := lw_g (lw_at lw_m11 209 rfl) rfl
theorem q2895 : (Jvm.Cond.methodLink "ModulaWorks$Form" (52 : Nat) ({ cls := "ModulaWorks$Form", name := "imports", desc := "()V" } : Jvm.MethodName)) ∈ lw_all := lw_g (lw_at lw_m11 211 rfl) rfl
theorem q2897 : (Jvm.Cond.instanceMethod ({ cls := "ModulaWorks$Form", name := "imports", desc := "()V" } : Jvm.MethodName)) ∈ lw_all := lw_g (lw_at lw_m11 213 rfl) rfl
theorem q2983 : (Jvm.Cond.methodLink "ModulaWorks$Form" (58 : Nat) ({ cls := "ModulaWorks$Form", name := "block", desc := "()V" } : Jvm.MethodName)) ∈ lw_all := lw_g (lw_at lw_m12 59 rfl) rfl
theorem q2985 : (Jvm.Cond.instanceMethod ({ cls := "ModulaWorks$Form", name := "block", desc := "()V" } : Jvm.MethodName)) ∈ lw_all := lw_g (lw_at lw_m12 61 rfl) rfl
theorem q2899 : (Jvm.Cond.methodLink "ModulaWorks$Form" (61 : Nat) ({ cls := "ModulaWorks$Form", name := "names", desc := "()V" } : Jvm.MethodName)) ∈ lw_all := lw_g (lw_at lw_m11 215 rfl) rfl
theorem q2901 : (Jvm.Cond.instanceMethod ({ cls := "ModulaWorks$Form", name := "names", desc := "()V" } : Jvm.MethodName)) ∈ lw_all := lw_g (lw_at lw_m11 217 rfl) rfl
theorem q2947 : (Jvm.Cond.methodLink "ModulaWorks$Form" (67 : Nat) ({ cls := "ModulaWorks$Form", name := "types", desc := "(Z)V" } : Jvm.MethodName)) ∈ lw_all := lw_g (lw_at lw_m12 23 rfl) rfl
theorem q2949 : (Jvm.Cond.instanceMethod ({ cls := "ModulaWorks$Form", name := "types", desc := "(Z)V" } : Jvm.MethodName)) ∈ lw_all := lw_g (lw_at lw_m12 25 rfl) rfl
theorem q2971 : (Jvm.Cond.methodLink "ModulaWorks$Form" (71 : Nat) ({ cls := "ModulaWorks$Form", name := "variables", desc := "()V" } : Jvm.MethodName)) ∈ lw_all := lw_g (lw_at lw_m12 47 rfl) rfl
theorem q2973 : (Jvm.Cond.instanceMethod ({ cls := "ModulaWorks$Form", name := "variables", desc := "()V" } : Jvm.MethodName)) ∈ lw_all := lw_g (lw_at lw_m12 49 rfl) rfl
theorem q2911 : (Jvm.Cond.methodLink "ModulaWorks$Form" (80 : Nat) ({ cls := "ModulaWorks$Form", name := "expression", desc := "()V" } : Jvm.MethodName)) ∈ lw_all := lw_g (lw_at lw_m11 227 rfl) rfl
theorem q2913 : (Jvm.Cond.instanceMethod ({ cls := "ModulaWorks$Form", name := "expression", desc := "()V" } : Jvm.MethodName)) ∈ lw_all := lw_g (lw_at lw_m11 229 rfl) rfl
theorem q2951 : (Jvm.Cond.methodLink "ModulaWorks$Form" (83 : Nat) ({ cls := "ModulaWorks$Form", name := "type", desc := "()V" } : Jvm.MethodName)) ∈ lw_all := lw_g (lw_at lw_m12 27 rfl) rfl
theorem q2953 : (Jvm.Cond.instanceMethod ({ cls := "ModulaWorks$Form", name := "type", desc := "()V" } : Jvm.MethodName)) ∈ lw_all := lw_g (lw_at lw_m12 29 rfl) rfl
theorem q2995 : (Jvm.Cond.methodLink "ModulaWorks$Form" (92 : Nat) ({ cls := "ModulaWorks$Form", name := "statements", desc := "()V" } : Jvm.MethodName)) ∈ lw_all := lw_g (lw_at lw_m12 71 rfl) rfl
theorem q2997 : (Jvm.Cond.instanceMethod ({ cls := "ModulaWorks$Form", name := "statements", desc := "()V" } : Jvm.MethodName)) ∈ lw_all := lw_g (lw_at lw_m12 73 rfl) rfl
theorem q2959 : (Jvm.Cond.methodLink "ModulaWorks$Form" (98 : Nat) ({ cls := "ModulaWorks$Form", name := "known", desc := "()V" } : Jvm.MethodName)) ∈ lw_all := lw_g (lw_at lw_m12 35 rfl) rfl
theorem q2961 : (Jvm.Cond.instanceMethod ({ cls := "ModulaWorks$Form", name := "known", desc := "()V" } : Jvm.MethodName)) ∈ lw_all := lw_g (lw_at lw_m12 37 rfl) rfl
theorem q2923 : (Jvm.Cond.methodLink "ModulaWorks$Form" (101 : Nat) ({ cls := "ModulaWorks$Form", name := "now", desc := "()I" } : Jvm.MethodName)) ∈ lw_all := lw_g (lw_at lw_m11 239 rfl) rfl
theorem q2925 : (Jvm.Cond.instanceMethod ({ cls := "ModulaWorks$Form", name := "now", desc := "()I" } : Jvm.MethodName)) ∈ lw_all := lw_g (lw_at lw_m12 1 rfl) rfl
theorem q2955 : (Jvm.Cond.methodLink "ModulaWorks$Form" (105 : Nat) ({ cls := "ModulaWorks$Form", name := "simple", desc := "()V" } : Jvm.MethodName)) ∈ lw_all := lw_g (lw_at lw_m12 31 rfl) rfl
theorem q2957 : (Jvm.Cond.instanceMethod ({ cls := "ModulaWorks$Form", name := "simple", desc := "()V" } : Jvm.MethodName)) ∈ lw_all := lw_g (lw_at lw_m12 33 rfl) rfl
theorem q2999 : (Jvm.Cond.methodLink "ModulaWorks$Form" (111 : Nat) ({ cls := "ModulaWorks$Form", name := "statement", desc := "()V" } : Jvm.MethodName)) ∈ lw_all := lw_g (lw_at lw_m12 75 rfl) rfl
theorem q3001 : (Jvm.Cond.instanceMethod ({ cls := "ModulaWorks$Form", name := "statement", desc := "()V" } : Jvm.MethodName)) ∈ lw_all := lw_g (lw_at lw_m12 77 rfl) rfl
theorem q2935 : (Jvm.Cond.methodLink "ModulaWorks$Form" (114 : Nat) ({ cls := "ModulaWorks$Form", name := "designator", desc := "()V" } : Jvm.MethodName)) ∈ lw_all := lw_g (lw_at lw_m12 11 rfl) rfl
theorem q2937 : (Jvm.Cond.instanceMethod ({ cls := "ModulaWorks$Form", name := "designator", desc := "()V" } : Jvm.MethodName)) ∈ lw_all := lw_g (lw_at lw_m12 13 rfl) rfl
theorem q2943 : (Jvm.Cond.methodLink "ModulaWorks$Form" (117 : Nat) ({ cls := "ModulaWorks$Form", name := "actuals", desc := "()V" } : Jvm.MethodName)) ∈ lw_all := lw_g (lw_at lw_m12 19 rfl) rfl
theorem q2945 : (Jvm.Cond.instanceMethod ({ cls := "ModulaWorks$Form", name := "actuals", desc := "()V" } : Jvm.MethodName)) ∈ lw_all := lw_g (lw_at lw_m12 21 rfl) rfl
theorem q3003 : (Jvm.Cond.methodLink "ModulaWorks$Form" (120 : Nat) ({ cls := "ModulaWorks$Form", name := "chosen", desc := "()V" } : Jvm.MethodName)) ∈ lw_all := lw_g (lw_at lw_m12 79 rfl) rfl
theorem q3005 : (Jvm.Cond.instanceMethod ({ cls := "ModulaWorks$Form", name := "chosen", desc := "()V" } : Jvm.MethodName)) ∈ lw_all := lw_g (lw_at lw_m12 81 rfl) rfl
theorem q3007 : (Jvm.Cond.methodLink "ModulaWorks$Form" (123 : Nat) ({ cls := "ModulaWorks$Form", name := "ends", desc := "()V" } : Jvm.MethodName)) ∈ lw_all := lw_g (lw_at lw_m12 83 rfl) rfl
theorem q3009 : (Jvm.Cond.instanceMethod ({ cls := "ModulaWorks$Form", name := "ends", desc := "()V" } : Jvm.MethodName)) ∈ lw_all := lw_g (lw_at lw_m12 85 rfl) rfl
theorem q3019 : (Jvm.Cond.methodLink "ModulaWorks$Form" (129 : Nat) ({ cls := "ModulaWorks$Form", name := "closes", desc := "()V" } : Jvm.MethodName)) ∈ lw_all := lw_g (lw_at lw_m12 95 rfl) rfl
theorem q3021 : (Jvm.Cond.instanceMethod ({ cls := "ModulaWorks$Form", name := "closes", desc := "()V" } : Jvm.MethodName)) ∈ lw_all := lw_g (lw_at lw_m12 97 rfl) rfl
theorem q3023 : (Jvm.Cond.methodLink "ModulaWorks$Form" (132 : Nat) ({ cls := "ModulaWorks$Form", name := "others", desc := "()V" } : Jvm.MethodName)) ∈ lw_all := lw_g (lw_at lw_m12 99 rfl) rfl
theorem q3025 : (Jvm.Cond.instanceMethod ({ cls := "ModulaWorks$Form", name := "others", desc := "()V" } : Jvm.MethodName)) ∈ lw_all := lw_g (lw_at lw_m12 101 rfl) rfl
theorem q2915 : (Jvm.Cond.methodLink "ModulaWorks$Form" (142 : Nat) ({ cls := "ModulaWorks$Form", name := "sum", desc := "()V" } : Jvm.MethodName)) ∈ lw_all := lw_g (lw_at lw_m11 231 rfl) rfl
theorem q2917 : (Jvm.Cond.instanceMethod ({ cls := "ModulaWorks$Form", name := "sum", desc := "()V" } : Jvm.MethodName)) ∈ lw_all := lw_g (lw_at lw_m11 233 rfl) rfl
theorem q2919 : (Jvm.Cond.methodLink "ModulaWorks$Form" (145 : Nat) ({ cls := "ModulaWorks$Form", name := "factor", desc := "()V" } : Jvm.MethodName)) ∈ lw_all := lw_g (lw_at lw_m11 235 rfl) rfl
theorem q2921 : (Jvm.Cond.instanceMethod ({ cls := "ModulaWorks$Form", name := "factor", desc := "()V" } : Jvm.MethodName)) ∈ lw_all := lw_g (lw_at lw_m11 237 rfl) rfl
theorem q2939 : (Jvm.Cond.methodLink "ModulaWorks$Form" (151 : Nat) ({ cls := "ModulaWorks$Form", name := "list", desc := "()V" } : Jvm.MethodName)) ∈ lw_all := lw_g (lw_at lw_m12 15 rfl) rfl
theorem q2941 : (Jvm.Cond.instanceMethod ({ cls := "ModulaWorks$Form", name := "list", desc := "()V" } : Jvm.MethodName)) ∈ lw_all := lw_g (lw_at lw_m12 17 rfl) rfl
theorem q558 : (Jvm.Cond.methodLink "ModulaWorks$Wrong" (1 : Nat) ({ cls := "java/lang/RuntimeException", name := "<init>", desc := "(Ljava/lang/String;Ljava/lang/Throwable;ZZ)V" } : Jvm.MethodName)) ∈ lw_all := lw_g (lw_at lw_m2 34 rfl) rfl
theorem q559 : (Jvm.Cond.instanceMethod ({ cls := "java/lang/RuntimeException", name := "<init>", desc := "(Ljava/lang/String;Ljava/lang/Throwable;ZZ)V" } : Jvm.MethodName)) ∈ lw_all := lw_g (lw_at lw_m2 35 rfl) rfl
theorem q599 : (Jvm.Cond.methodLink "ModulaWorks$Sense" (3 : Nat) ({ cls := "java/lang/Object", name := "<init>", desc := "()V" } : Jvm.MethodName)) ∈ lw_all := lw_g (lw_at lw_m2 75 rfl) rfl
theorem q601 : (Jvm.Cond.methodLink "ModulaWorks$Sense" (11 : Nat) ({ cls := "ModulaWorks$Wrong", name := "<init>", desc := "()V" } : Jvm.MethodName)) ∈ lw_all := lw_g (lw_at lw_m2 77 rfl) rfl
theorem q604 : (Jvm.Cond.methodLinkNest "ModulaWorks$Sense" (20 : Nat) ({ cls := "ModulaWorks$Pool", name := "<init>", desc := "()V" } : Jvm.MethodName) "ModulaWorks") ∈ lw_tbl := lw_at lw_m2 80 rfl
theorem q605 : (Jvm.Cond.instanceMethod ({ cls := "ModulaWorks$Pool", name := "<init>", desc := "()V" } : Jvm.MethodName)) ∈ lw_all := lw_g (lw_at lw_m2 81 rfl) rfl
theorem q635 : (Jvm.Cond.methodLinkNest "ModulaWorks$Sense" (27 : Nat) ({ cls := "ModulaWorks$Maker", name := "<init>", desc := "()V" } : Jvm.MethodName) "ModulaWorks") ∈ lw_tbl := lw_at lw_m2 111 rfl
theorem q636 : (Jvm.Cond.instanceMethod ({ cls := "ModulaWorks$Maker", name := "<init>", desc := "()V" } : Jvm.MethodName)) ∈ lw_all := lw_g (lw_at lw_m2 112 rfl) rfl
theorem q1676 : (Jvm.Cond.methodLink "ModulaWorks$Sense" (140 : Nat) ({ cls := "ModulaWorks$Sense", name := "is", desc := "(I)Z" } : Jvm.MethodName)) ∈ lw_all := lw_g (lw_at lw_m6 192 rfl) rfl
theorem q1678 : (Jvm.Cond.instanceMethod ({ cls := "ModulaWorks$Sense", name := "is", desc := "(I)Z" } : Jvm.MethodName)) ∈ lw_all := lw_g (lw_at lw_m6 194 rfl) rfl
theorem q1692 : (Jvm.Cond.methodLink "ModulaWorks$Sense" (166 : Nat) ({ cls := "ModulaWorks$Scope", name := "find", desc := "(JJ)LModulaWorks$Sym;" } : Jvm.MethodName)) ∈ lw_all := lw_g (lw_at lw_m6 208 rfl) rfl
theorem q1693 : (Jvm.Cond.instanceMethod ({ cls := "ModulaWorks$Scope", name := "find", desc := "(JJ)LModulaWorks$Sym;" } : Jvm.MethodName)) ∈ lw_all := lw_g (lw_at lw_m6 209 rfl) rfl
theorem q1694 : (Jvm.Cond.selects "ModulaWorks$Scope" ({ cls := "ModulaWorks$Scope", name := "find", desc := "(JJ)LModulaWorks$Sym;" } : Jvm.MethodName) ({ cls := "ModulaWorks$Scope", name := "find", desc := "(JJ)LModulaWorks$Sym;" } : Jvm.MethodName)) ∈ lw_all := lw_g (lw_at lw_m6 210 rfl) rfl
theorem q1654 : (Jvm.Cond.methodLink "ModulaWorks$Sense" (175 : Nat) ({ cls := "ModulaWorks$Sense", name := "need", desc := "(Z)V" } : Jvm.MethodName)) ∈ lw_all := lw_g (lw_at lw_m6 170 rfl) rfl
theorem q1656 : (Jvm.Cond.instanceMethod ({ cls := "ModulaWorks$Sense", name := "need", desc := "(Z)V" } : Jvm.MethodName)) ∈ lw_all := lw_g (lw_at lw_m6 172 rfl) rfl
theorem q1505 : (Jvm.Cond.methodLink "ModulaWorks$Sense" (179 : Nat) ({ cls := "ModulaWorks$Pool", name := "sym", desc := "(JJILModulaWorks$Type;I)LModulaWorks$Sym;" } : Jvm.MethodName)) ∈ lw_all := lw_g (lw_at lw_m6 21 rfl) rfl
theorem q1506 : (Jvm.Cond.instanceMethod ({ cls := "ModulaWorks$Pool", name := "sym", desc := "(JJILModulaWorks$Type;I)LModulaWorks$Sym;" } : Jvm.MethodName)) ∈ lw_all := lw_g (lw_at lw_m6 22 rfl) rfl
theorem q1507 : (Jvm.Cond.selects "ModulaWorks$Pool" ({ cls := "ModulaWorks$Pool", name := "sym", desc := "(JJILModulaWorks$Type;I)LModulaWorks$Sym;" } : Jvm.MethodName) ({ cls := "ModulaWorks$Pool", name := "sym", desc := "(JJILModulaWorks$Type;I)LModulaWorks$Sym;" } : Jvm.MethodName)) ∈ lw_all := lw_g (lw_at lw_m6 23 rfl) rfl
theorem q1616 : (Jvm.Cond.methodLink "ModulaWorks$Sense" (189 : Nat) ({ cls := "ModulaWorks$Scope", name := "add", desc := "(LModulaWorks$Sym;)V" } : Jvm.MethodName)) ∈ lw_all := lw_g (lw_at lw_m6 132 rfl) rfl
theorem q1617 : (Jvm.Cond.instanceMethod ({ cls := "ModulaWorks$Scope", name := "add", desc := "(LModulaWorks$Sym;)V" } : Jvm.MethodName)) ∈ lw_all := lw_g (lw_at lw_m6 133 rfl) rfl
theorem q1618 : (Jvm.Cond.selects "ModulaWorks$Scope" ({ cls := "ModulaWorks$Scope", name := "add", desc := "(LModulaWorks$Sym;)V" } : Jvm.MethodName) ({ cls := "ModulaWorks$Scope", name := "add", desc := "(LModulaWorks$Sym;)V" } : Jvm.MethodName)) ∈ lw_all := lw_g (lw_at lw_m6 134 rfl) rfl
theorem q1705 : (Jvm.Cond.methodLink "ModulaWorks$Sense" (198 : Nat) ({ cls := "ModulaWorks$Sense", name := "one", desc := "(LModulaWorks$Scope;JJLModulaWorks$Sym;Z)V" } : Jvm.MethodName)) ∈ lw_all := lw_g (lw_at lw_m6 221 rfl) rfl
theorem q1707 : (Jvm.Cond.instanceMethod ({ cls := "ModulaWorks$Sense", name := "one", desc := "(LModulaWorks$Scope;JJLModulaWorks$Sym;Z)V" } : Jvm.MethodName)) ∈ lw_all := lw_g (lw_at lw_m6 223 rfl) rfl
theorem q1425 : (Jvm.Cond.methodLink "ModulaWorks$Sense" (235 : Nat) ({ cls := "ModulaWorks$Pool", name := "type", desc := "(II)LModulaWorks$Type;" } : Jvm.MethodName)) ∈ lw_all := lw_g (lw_at lw_m5 181 rfl) rfl
theorem q1426 : (Jvm.Cond.instanceMethod ({ cls := "ModulaWorks$Pool", name := "type", desc := "(II)LModulaWorks$Type;" } : Jvm.MethodName)) ∈ lw_all := lw_g (lw_at lw_m5 182 rfl) rfl
theorem q1427 : (Jvm.Cond.selects "ModulaWorks$Pool" ({ cls := "ModulaWorks$Pool", name := "type", desc := "(II)LModulaWorks$Type;" } : Jvm.MethodName) ({ cls := "ModulaWorks$Pool", name := "type", desc := "(II)LModulaWorks$Type;" } : Jvm.MethodName)) ∈ lw_all := lw_g (lw_at lw_m5 183 rfl) rfl
theorem q1494 : (Jvm.Cond.methodLinkNest "ModulaWorks$Sense" (244 : Nat) ({ cls := "ModulaWorks", name := "half", desc := "(Ljava/lang/String;II)J" } : Jvm.MethodName) "ModulaWorks") ∈ lw_tbl := lw_at lw_m6 10 rfl
theorem q1495 : (Jvm.Cond.static ({ cls := "ModulaWorks", name := "half", desc := "(Ljava/lang/String;II)J" } : Jvm.MethodName)) ∈ lw_all := lw_g (lw_at lw_m6 11 rfl) rfl
theorem q1375 : (Jvm.Cond.methodLink "ModulaWorks$Sense" (248 : Nat) ({ cls := "ModulaWorks$Pool", name := "begin", desc := "()V" } : Jvm.MethodName)) ∈ lw_all := lw_g (lw_at lw_m5 131 rfl) rfl
theorem q1376 : (Jvm.Cond.instanceMethod ({ cls := "ModulaWorks$Pool", name := "begin", desc := "()V" } : Jvm.MethodName)) ∈ lw_all := lw_g (lw_at lw_m5 132 rfl) rfl
theorem q1377 : (Jvm.Cond.selects "ModulaWorks$Pool" ({ cls := "ModulaWorks$Pool", name := "begin", desc := "()V" } : Jvm.MethodName) ({ cls := "ModulaWorks$Pool", name := "begin", desc := "()V" } : Jvm.MethodName)) ∈ lw_all := lw_g (lw_at lw_m5 133 rfl) rfl
theorem q1379 : (Jvm.Cond.methodLink "ModulaWorks$Sense" (251 : Nat) ({ cls := "ModulaWorks$Shelf", name := "nextSession", desc := "()I" } : Jvm.MethodName)) ∈ lw_all := lw_g (lw_at lw_m5 135 rfl) rfl
theorem q1380 : (Jvm.Cond.instanceMethod ({ cls := "ModulaWorks$Shelf", name := "nextSession", desc := "()I" } : Jvm.MethodName)) ∈ lw_all := lw_g (lw_at lw_m5 136 rfl) rfl
theorem q1381 : (Jvm.Cond.selects "ModulaWorks$Shelf" ({ cls := "ModulaWorks$Shelf", name := "nextSession", desc := "()I" } : Jvm.MethodName) ({ cls := "ModulaWorks$Shelf", name := "nextSession", desc := "()I" } : Jvm.MethodName)) ∈ lw_all := lw_g (lw_at lw_m5 137 rfl) rfl
theorem q1383 : (Jvm.Cond.methodLink "ModulaWorks$Sense" (284 : Nat) ({ cls := "ModulaWorks$Pool", name := "scope", desc := "(LModulaWorks$Scope;)LModulaWorks$Scope;" } : Jvm.MethodName)) ∈ lw_all := lw_g (lw_at lw_m5 139 rfl) rfl
theorem q1384 : (Jvm.Cond.instanceMethod ({ cls := "ModulaWorks$Pool", name := "scope", desc := "(LModulaWorks$Scope;)LModulaWorks$Scope;" } : Jvm.MethodName)) ∈ lw_all := lw_g (lw_at lw_m5 140 rfl) rfl
theorem q1385 : (Jvm.Cond.selects "ModulaWorks$Pool" ({ cls := "ModulaWorks$Pool", name := "scope", desc := "(LModulaWorks$Scope;)LModulaWorks$Scope;" } : Jvm.MethodName) ({ cls := "ModulaWorks$Pool", name := "scope", desc := "(LModulaWorks$Scope;)LModulaWorks$Scope;" } : Jvm.MethodName)) ∈ lw_all := lw_g (lw_at lw_m5 141 rfl) rfl
theorem q1421 : (Jvm.Cond.methodLink "ModulaWorks$Sense" (290 : Nat) ({ cls := "ModulaWorks$Sense", name := "basic", desc := "(IIII)LModulaWorks$Type;" } : Jvm.MethodName)) ∈ lw_all := lw_g (lw_at lw_m5 177 rfl) rfl
theorem q1423 : (Jvm.Cond.instanceMethod ({ cls := "ModulaWorks$Sense", name := "basic", desc := "(IIII)LModulaWorks$Type;" } : Jvm.MethodName)) ∈ lw_all := lw_g (lw_at lw_m5 179 rfl) rfl
theorem q1490 : (Jvm.Cond.methodLink "ModulaWorks$Sense" (330 : Nat) ({ cls := "ModulaWorks$Sense", name := "named", desc := "(Ljava/lang/String;ILModulaWorks$Type;I)LModulaWorks$Sym;" } : Jvm.MethodName)) ∈ lw_all := lw_g (lw_at lw_m6 6 rfl) rfl
theorem q1492 : (Jvm.Cond.instanceMethod ({ cls := "ModulaWorks$Sense", name := "named", desc := "(Ljava/lang/String;ILModulaWorks$Type;I)LModulaWorks$Sym;" } : Jvm.MethodName)) ∈ lw_all := lw_g (lw_at lw_m6 8 rfl) rfl
theorem q1629 : (Jvm.Cond.methodLink "ModulaWorks$Sense" (352 : Nat) ({ cls := "ModulaWorks$Sense", name := "systemModule", desc := "(Ljava/lang/String;)LModulaWorks$Sym;" } : Jvm.MethodName)) ∈ lw_all := lw_g (lw_at lw_m6 145 rfl) rfl
theorem q1631 : (Jvm.Cond.instanceMethod ({ cls := "ModulaWorks$Sense", name := "systemModule", desc := "(Ljava/lang/String;)LModulaWorks$Sym;" } : Jvm.MethodName)) ∈ lw_all := lw_g (lw_at lw_m6 147 rfl) rfl
theorem q1371 : (Jvm.Cond.methodLink "ModulaWorks$Sense" (371 : Nat) ({ cls := "ModulaWorks$Sense", name := "begin", desc := "()V" } : Jvm.MethodName)) ∈ lw_all := lw_g (lw_at lw_m5 127 rfl) rfl
theorem q1373 : (Jvm.Cond.instanceMethod ({ cls := "ModulaWorks$Sense", name := "begin", desc := "()V" } : Jvm.MethodName)) ∈ lw_all := lw_g (lw_at lw_m5 129 rfl) rfl
theorem q1637 : (Jvm.Cond.methodLink "ModulaWorks$Sense" (379 : Nat) ({ cls := "ModulaWorks$Sense", name := "implement", desc := "(LModulaWorks$Unit;LModulaWorks$Sym;)V" } : Jvm.MethodName)) ∈ lw_all := lw_g (lw_at lw_m6 153 rfl) rfl
theorem q1639 : (Jvm.Cond.instanceMethod ({ cls := "ModulaWorks$Sense", name := "implement", desc := "(LModulaWorks$Unit;LModulaWorks$Sym;)V" } : Jvm.MethodName)) ∈ lw_all := lw_g (lw_at lw_m6 155 rfl) rfl
theorem q1817 : (Jvm.Cond.methodLink "ModulaWorks$Sense" (386 : Nat) ({ cls := "ModulaWorks$Maker", name := "op", desc := "(II)V" } : Jvm.MethodName)) ∈ lw_all := lw_g (lw_at lw_m7 93 rfl) rfl
theorem q1818 : (Jvm.Cond.instanceMethod ({ cls := "ModulaWorks$Maker", name := "op", desc := "(II)V" } : Jvm.MethodName)) ∈ lw_all := lw_g (lw_at lw_m7 94 rfl) rfl
theorem q1819 : (Jvm.Cond.selects "ModulaWorks$Maker" ({ cls := "ModulaWorks$Maker", name := "op", desc := "(II)V" } : Jvm.MethodName) ({ cls := "ModulaWorks$Maker", name := "op", desc := "(II)V" } : Jvm.MethodName)) ∈ lw_all := lw_g (lw_at lw_m7 95 rfl) rfl
theorem q1781 : (Jvm.Cond.methodLink "ModulaWorks$Sense" (390 : Nat) ({ cls := "ModulaWorks$Maker", name := "emit", desc := "(I)V" } : Jvm.MethodName)) ∈ lw_all := lw_g (lw_at lw_m7 57 rfl) rfl
theorem q1782 : (Jvm.Cond.instanceMethod ({ cls := "ModulaWorks$Maker", name := "emit", desc := "(I)V" } : Jvm.MethodName)) ∈ lw_all := lw_g (lw_at lw_m7 58 rfl) rfl
theorem q1783 : (Jvm.Cond.selects "ModulaWorks$Maker" ({ cls := "ModulaWorks$Maker", name := "emit", desc := "(I)V" } : Jvm.MethodName) ({ cls := "ModulaWorks$Maker", name := "emit", desc := "(I)V" } : Jvm.MethodName)) ∈ lw_all := lw_g (lw_at lw_m7 59 rfl) rfl
theorem q1645 : (Jvm.Cond.methodLink "ModulaWorks$Sense" (403 : Nat) ({ cls := "ModulaWorks$Sense", name := "a", desc := "()J" } : Jvm.MethodName)) ∈ lw_all := lw_g (lw_at lw_m6 161 rfl) rfl
theorem q1647 : (Jvm.Cond.instanceMethod ({ cls := "ModulaWorks$Sense", name := "a", desc := "()J" } : Jvm.MethodName)) ∈ lw_all := lw_g (lw_at lw_m6 163 rfl) rfl
theorem q1649 : (Jvm.Cond.methodLink "ModulaWorks$Sense" (407 : Nat) ({ cls := "ModulaWorks$Sense", name := "b", desc := "()J" } : Jvm.MethodName)) ∈ lw_all := lw_g (lw_at lw_m6 165 rfl) rfl
theorem q1651 : (Jvm.Cond.instanceMethod ({ cls := "ModulaWorks$Sense", name := "b", desc := "()J" } : Jvm.MethodName)) ∈ lw_all := lw_g (lw_at lw_m6 167 rfl) rfl
theorem q1641 : (Jvm.Cond.methodLink "ModulaWorks$Sense" (410 : Nat) ({ cls := "ModulaWorks$Sense", name := "item", desc := "()V" } : Jvm.MethodName)) ∈ lw_all := lw_g (lw_at lw_m6 157 rfl) rfl
theorem q1643 : (Jvm.Cond.instanceMethod ({ cls := "ModulaWorks$Sense", name := "item", desc := "()V" } : Jvm.MethodName)) ∈ lw_all := lw_g (lw_at lw_m6 159 rfl) rfl
theorem q1653 : (Jvm.Cond.methodLinkNest "ModulaWorks$Sense" (412 : Nat) ({ cls := "ModulaWorks", name := "isSystem", desc := "(JJ)Z" } : Jvm.MethodName) "ModulaWorks") ∈ lw_tbl := lw_at lw_m6 169 rfl
theorem q1672 : (Jvm.Cond.methodLink "ModulaWorks$Sense" (416 : Nat) ({ cls := "ModulaWorks$Sense", name := "imports", desc := "(LModulaWorks$Scope;)V" } : Jvm.MethodName)) ∈ lw_all := lw_g (lw_at lw_m6 188 rfl) rfl
theorem q1674 : (Jvm.Cond.instanceMethod ({ cls := "ModulaWorks$Sense", name := "imports", desc := "(LModulaWorks$Scope;)V" } : Jvm.MethodName)) ∈ lw_all := lw_g (lw_at lw_m6 190 rfl) rfl
theorem q1680 : (Jvm.Cond.methodLink "ModulaWorks$Sense" (420 : Nat) ({ cls := "ModulaWorks$Sense", name := "takes", desc := "(I)Z" } : Jvm.MethodName)) ∈ lw_all := lw_g (lw_at lw_m6 196 rfl) rfl
theorem q1682 : (Jvm.Cond.instanceMethod ({ cls := "ModulaWorks$Sense", name := "takes", desc := "(I)Z" } : Jvm.MethodName)) ∈ lw_all := lw_g (lw_at lw_m6 198 rfl) rfl
theorem q2253 : (Jvm.Cond.methodLink "ModulaWorks$Sense" (439 : Nat) ({ cls := "ModulaWorks$Sense", name := "variables", desc := "()V" } : Jvm.MethodName)) ∈ lw_all := lw_g (lw_at lw_m9 49 rfl) rfl
theorem q2255 : (Jvm.Cond.instanceMethod ({ cls := "ModulaWorks$Sense", name := "variables", desc := "()V" } : Jvm.MethodName)) ∈ lw_all := lw_g (lw_at lw_m9 51 rfl) rfl
theorem q2274 : (Jvm.Cond.methodLink "ModulaWorks$Sense" (466 : Nat) ({ cls := "ModulaWorks$Sense", name := "block", desc := "(LModulaWorks$Sym;)V" } : Jvm.MethodName)) ∈ lw_all := lw_g (lw_at lw_m9 70 rfl) rfl
theorem q2276 : (Jvm.Cond.instanceMethod ({ cls := "ModulaWorks$Sense", name := "block", desc := "(LModulaWorks$Sym;)V" } : Jvm.MethodName)) ∈ lw_all := lw_g (lw_at lw_m9 72 rfl) rfl
theorem q2482 : (Jvm.Cond.methodLink "ModulaWorks$Sense" (469 : Nat) ({ cls := "ModulaWorks$Sense", name := "closingAll", desc := "(LModulaWorks$Sym;JJ)V" } : Jvm.MethodName)) ∈ lw_all := lw_g (lw_at lw_m10 38 rfl) rfl
theorem q2484 : (Jvm.Cond.instanceMethod ({ cls := "ModulaWorks$Sense", name := "closingAll", desc := "(LModulaWorks$Sym;JJ)V" } : Jvm.MethodName)) ∈ lw_all := lw_g (lw_at lw_m10 40 rfl) rfl
theorem q2298 : (Jvm.Cond.methodLink "ModulaWorks$Sense" (480 : Nat) ({ cls := "ModulaWorks$Sense", name := "areThere", desc := "(LModulaWorks$Scope;)V" } : Jvm.MethodName)) ∈ lw_all := lw_g (lw_at lw_m9 94 rfl) rfl
theorem q2300 : (Jvm.Cond.instanceMethod ({ cls := "ModulaWorks$Sense", name := "areThere", desc := "(LModulaWorks$Scope;)V" } : Jvm.MethodName)) ∈ lw_all := lw_g (lw_at lw_m9 96 rfl) rfl
theorem q1684 : (Jvm.Cond.methodLink "ModulaWorks$Sense" (489 : Nat) ({ cls := "ModulaWorks$Sense", name := "importable", desc := "(LModulaWorks$Scope;)LModulaWorks$Sym;" } : Jvm.MethodName)) ∈ lw_all := lw_g (lw_at lw_m6 200 rfl) rfl
theorem q1686 : (Jvm.Cond.instanceMethod ({ cls := "ModulaWorks$Sense", name := "importable", desc := "(LModulaWorks$Scope;)LModulaWorks$Sym;" } : Jvm.MethodName)) ∈ lw_all := lw_g (lw_at lw_m6 202 rfl) rfl
theorem q1701 : (Jvm.Cond.methodLink "ModulaWorks$Sense" (493 : Nat) ({ cls := "ModulaWorks$Sense", name := "alias", desc := "(LModulaWorks$Scope;LModulaWorks$Sym;Z)V" } : Jvm.MethodName)) ∈ lw_all := lw_g (lw_at lw_m6 217 rfl) rfl
theorem q1703 : (Jvm.Cond.instanceMethod ({ cls := "ModulaWorks$Sense", name := "alias", desc := "(LModulaWorks$Scope;LModulaWorks$Sym;Z)V" } : Jvm.MethodName)) ∈ lw_all := lw_g (lw_at lw_m6 219 rfl) rfl
theorem q1688 : (Jvm.Cond.methodLink "ModulaWorks$Sense" (497 : Nat) ({ cls := "ModulaWorks$Sense", name := "find", desc := "(JJ)LModulaWorks$Sym;" } : Jvm.MethodName)) ∈ lw_all := lw_g (lw_at lw_m6 204 rfl) rfl
theorem q1690 : (Jvm.Cond.instanceMethod ({ cls := "ModulaWorks$Sense", name := "find", desc := "(JJ)LModulaWorks$Sym;" } : Jvm.MethodName)) ∈ lw_all := lw_g (lw_at lw_m6 206 rfl) rfl
theorem q1717 : (Jvm.Cond.methodLink "ModulaWorks$Sense" (503 : Nat) ({ cls := "ModulaWorks$Sense", name := "constant", desc := "()LModulaWorks$Item;" } : Jvm.MethodName)) ∈ lw_all := lw_g (lw_at lw_m6 233 rfl) rfl
theorem q1719 : (Jvm.Cond.instanceMethod ({ cls := "ModulaWorks$Sense", name := "constant", desc := "()LModulaWorks$Item;" } : Jvm.MethodName)) ∈ lw_all := lw_g (lw_at lw_m6 235 rfl) rfl
theorem q2170 : (Jvm.Cond.methodLink "ModulaWorks$Sense" (509 : Nat) ({ cls := "ModulaWorks$Sense", name := "declare", desc := "(JJILModulaWorks$Type;I)LModulaWorks$Sym;" } : Jvm.MethodName)) ∈ lw_all := lw_g (lw_at lw_m8 206 rfl) rfl
theorem q2172 : (Jvm.Cond.instanceMethod ({ cls := "ModulaWorks$Sense", name := "declare", desc := "(JJILModulaWorks$Type;I)LModulaWorks$Sym;" } : Jvm.MethodName)) ∈ lw_all := lw_g (lw_at lw_m8 208 rfl) rfl
theorem q2178 : (Jvm.Cond.methodLink "ModulaWorks$Sense" (521 : Nat) ({ cls := "ModulaWorks$Sense", name := "type", desc := "()LModulaWorks$Type;" } : Jvm.MethodName)) ∈ lw_all := lw_g (lw_at lw_m8 214 rfl) rfl
theorem q2180 : (Jvm.Cond.instanceMethod ({ cls := "ModulaWorks$Sense", name := "type", desc := "()LModulaWorks$Type;" } : Jvm.MethodName)) ∈ lw_all := lw_g (lw_at lw_m8 216 rfl) rfl
theorem q1873 : (Jvm.Cond.methodLink "ModulaWorks$Sense" (533 : Nat) ({ cls := "ModulaWorks$Sense", name := "known", desc := "()LModulaWorks$Sym;" } : Jvm.MethodName)) ∈ lw_all := lw_g (lw_at lw_m7 149 rfl) rfl
theorem q1875 : (Jvm.Cond.instanceMethod ({ cls := "ModulaWorks$Sense", name := "known", desc := "()LModulaWorks$Sym;" } : Jvm.MethodName)) ∈ lw_all := lw_g (lw_at lw_m7 151 rfl) rfl
theorem q1737 : (Jvm.Cond.methodLink "ModulaWorks$Sense" (537 : Nat) ({ cls := "ModulaWorks$Sense", name := "now", desc := "()I" } : Jvm.MethodName)) ∈ lw_all := lw_g (lw_at lw_m7 13 rfl) rfl
theorem q1739 : (Jvm.Cond.instanceMethod ({ cls := "ModulaWorks$Sense", name := "now", desc := "()I" } : Jvm.MethodName)) ∈ lw_all := lw_g (lw_at lw_m7 15 rfl) rfl
theorem q2182 : (Jvm.Cond.methodLink "ModulaWorks$Sense" (540 : Nat) ({ cls := "ModulaWorks$Sense", name := "array", desc := "()LModulaWorks$Type;" } : Jvm.MethodName)) ∈ lw_all := lw_g (lw_at lw_m8 218 rfl) rfl
theorem q2184 : (Jvm.Cond.instanceMethod ({ cls := "ModulaWorks$Sense", name := "array", desc := "()LModulaWorks$Type;" } : Jvm.MethodName)) ∈ lw_all := lw_g (lw_at lw_m8 220 rfl) rfl
theorem q2186 : (Jvm.Cond.methodLink "ModulaWorks$Sense" (546 : Nat) ({ cls := "ModulaWorks$Sense", name := "simple", desc := "()LModulaWorks$Type;" } : Jvm.MethodName)) ∈ lw_all := lw_g (lw_at lw_m8 222 rfl) rfl
theorem q2188 : (Jvm.Cond.instanceMethod ({ cls := "ModulaWorks$Sense", name := "simple", desc := "()LModulaWorks$Type;" } : Jvm.MethodName)) ∈ lw_all := lw_g (lw_at lw_m8 224 rfl) rfl
theorem q1798 : (Jvm.Cond.methodLink "ModulaWorks$Sense" (559 : Nat) ({ cls := "ModulaWorks$Type", name := "isOrdinal", desc := "()Z" } : Jvm.MethodName)) ∈ lw_all := lw_g (lw_at lw_m7 74 rfl) rfl
theorem q1799 : (Jvm.Cond.instanceMethod ({ cls := "ModulaWorks$Type", name := "isOrdinal", desc := "()Z" } : Jvm.MethodName)) ∈ lw_all := lw_g (lw_at lw_m7 75 rfl) rfl
theorem q1800 : (Jvm.Cond.selects "ModulaWorks$Type" ({ cls := "ModulaWorks$Type", name := "isOrdinal", desc := "()Z" } : Jvm.MethodName) ({ cls := "ModulaWorks$Type", name := "isOrdinal", desc := "()Z" } : Jvm.MethodName)) ∈ lw_all := lw_g (lw_at lw_m7 76 rfl) rfl
theorem q1745 : (Jvm.Cond.methodLink "ModulaWorks$Sense" (588 : Nat) ({ cls := "java/lang/System", name := "arraycopy", desc := "(Ljava/lang/Object;ILjava/lang/Object;II)V" } : Jvm.MethodName)) ∈ lw_all := lw_g (lw_at lw_m7 21 rfl) rfl
theorem q2194 : (Jvm.Cond.methodLink "ModulaWorks$Sense" (604 : Nat) ({ cls := "ModulaWorks$Sense", name := "typeNamed", desc := "()LModulaWorks$Type;" } : Jvm.MethodName)) ∈ lw_all := lw_g (lw_at lw_m8 230 rfl) rfl
theorem q2196 : (Jvm.Cond.instanceMethod ({ cls := "ModulaWorks$Sense", name := "typeNamed", desc := "()LModulaWorks$Type;" } : Jvm.MethodName)) ∈ lw_all := lw_g (lw_at lw_m8 232 rfl) rfl
theorem q2044 : (Jvm.Cond.methodLink "ModulaWorks$Sense" (607 : Nat) ({ cls := "ModulaWorks$Type", name := "isScalar", desc := "()Z" } : Jvm.MethodName)) ∈ lw_all := lw_g (lw_at lw_m8 80 rfl) rfl
theorem q2045 : (Jvm.Cond.instanceMethod ({ cls := "ModulaWorks$Type", name := "isScalar", desc := "()Z" } : Jvm.MethodName)) ∈ lw_all := lw_g (lw_at lw_m8 81 rfl) rfl
theorem q2046 : (Jvm.Cond.selects "ModulaWorks$Type" ({ cls := "ModulaWorks$Type", name := "isScalar", desc := "()Z" } : Jvm.MethodName) ({ cls := "ModulaWorks$Type", name := "isScalar", desc := "()Z" } : Jvm.MethodName)) ∈ lw_all := lw_g (lw_at lw_m8 82 rfl) rfl
theorem q1790 : (Jvm.Cond.methodLink "ModulaWorks$Sense" (622 : Nat) ({ cls := "ModulaWorks$Sense", name := "letter", desc := "(LModulaWorks$Item;)LModulaWorks$Item;" } : Jvm.MethodName)) ∈ lw_all := lw_g (lw_at lw_m7 66 rfl) rfl
theorem q1792 : (Jvm.Cond.instanceMethod ({ cls := "ModulaWorks$Sense", name := "letter", desc := "(LModulaWorks$Item;)LModulaWorks$Item;" } : Jvm.MethodName)) ∈ lw_all := lw_g (lw_at lw_m7 68 rfl) rfl
theorem q2198 : (Jvm.Cond.methodLink "ModulaWorks$Sense" (626 : Nat) ({ cls := "ModulaWorks$Sense", name := "belongs", desc := "(LModulaWorks$Type;ILModulaWorks$Type;)Z" } : Jvm.MethodName)) ∈ lw_all := lw_g (lw_at lw_m8 234 rfl) rfl
theorem q2199 : (Jvm.Cond.static ({ cls := "ModulaWorks$Sense", name := "belongs", desc := "(LModulaWorks$Type;ILModulaWorks$Type;)Z" } : Jvm.MethodName)) ∈ lw_all := lw_g (lw_at lw_m8 235 rfl) rfl
theorem q1802 : (Jvm.Cond.methodLink "ModulaWorks$Sense" (630 : Nat) ({ cls := "ModulaWorks$Type", name := "isWhole", desc := "()Z" } : Jvm.MethodName)) ∈ lw_all := lw_g (lw_at lw_m7 78 rfl) rfl
theorem q1803 : (Jvm.Cond.instanceMethod ({ cls := "ModulaWorks$Type", name := "isWhole", desc := "()Z" } : Jvm.MethodName)) ∈ lw_all := lw_g (lw_at lw_m7 79 rfl) rfl
theorem q1804 : (Jvm.Cond.selects "ModulaWorks$Type" ({ cls := "ModulaWorks$Type", name := "isWhole", desc := "()Z" } : Jvm.MethodName) ({ cls := "ModulaWorks$Type", name := "isWhole", desc := "()Z" } : Jvm.MethodName)) ∈ lw_all := lw_g (lw_at lw_m7 80 rfl) rfl
theorem q1966 : (Jvm.Cond.methodLink "ModulaWorks$Sense" (633 : Nat) ({ cls := "ModulaWorks$Type", name := "has", desc := "(I)Z" } : Jvm.MethodName)) ∈ lw_all := lw_g (lw_at lw_m8 2 rfl) rfl
theorem q1967 : (Jvm.Cond.instanceMethod ({ cls := "ModulaWorks$Type", name := "has", desc := "(I)Z" } : Jvm.MethodName)) ∈ lw_all := lw_g (lw_at lw_m8 3 rfl) rfl
theorem q1968 : (Jvm.Cond.selects "ModulaWorks$Type" ({ cls := "ModulaWorks$Type", name := "has", desc := "(I)Z" } : Jvm.MethodName) ({ cls := "ModulaWorks$Type", name := "has", desc := "(I)Z" } : Jvm.MethodName)) ∈ lw_all := lw_g (lw_at lw_m8 4 rfl) rfl
theorem q2257 : (Jvm.Cond.methodLink "ModulaWorks$Sense" (636 : Nat) ({ cls := "ModulaWorks$Sense", name := "variable", desc := "(JJLModulaWorks$Type;)V" } : Jvm.MethodName)) ∈ lw_all := lw_g (lw_at lw_m9 53 rfl) rfl
theorem q2259 : (Jvm.Cond.instanceMethod ({ cls := "ModulaWorks$Sense", name := "variable", desc := "(JJLModulaWorks$Type;)V" } : Jvm.MethodName)) ∈ lw_all := lw_g (lw_at lw_m9 55 rfl) rfl
theorem q2306 : (Jvm.Cond.methodLink "ModulaWorks$Sense" (677 : Nat) ({ cls := "ModulaWorks$Sense", name := "enter", desc := "(LModulaWorks$Sym;Z)V" } : Jvm.MethodName)) ∈ lw_all := lw_g (lw_at lw_m9 102 rfl) rfl
theorem q2308 : (Jvm.Cond.instanceMethod ({ cls := "ModulaWorks$Sense", name := "enter", desc := "(LModulaWorks$Sym;Z)V" } : Jvm.MethodName)) ∈ lw_all := lw_g (lw_at lw_m9 104 rfl) rfl
theorem q2322 : (Jvm.Cond.methodLink "ModulaWorks$Sense" (681 : Nat) ({ cls := "ModulaWorks$Sense", name := "statements", desc := "()V" } : Jvm.MethodName)) ∈ lw_all := lw_g (lw_at lw_m9 118 rfl) rfl
theorem q2324 : (Jvm.Cond.instanceMethod ({ cls := "ModulaWorks$Sense", name := "statements", desc := "()V" } : Jvm.MethodName)) ∈ lw_all := lw_g (lw_at lw_m9 120 rfl) rfl
theorem q2474 : (Jvm.Cond.methodLink "ModulaWorks$Sense" (684 : Nat) ({ cls := "ModulaWorks$Sense", name := "leave", desc := "(LModulaWorks$Sym;Z)V" } : Jvm.MethodName)) ∈ lw_all := lw_g (lw_at lw_m10 30 rfl) rfl
theorem q2476 : (Jvm.Cond.instanceMethod ({ cls := "ModulaWorks$Sense", name := "leave", desc := "(LModulaWorks$Sym;Z)V" } : Jvm.MethodName)) ∈ lw_all := lw_g (lw_at lw_m10 32 rfl) rfl
theorem q1747 : (Jvm.Cond.methodLinkNest "ModulaWorks$Sense" (697 : Nat) ({ cls := "ModulaWorks$Item", name := "<init>", desc := "()V" } : Jvm.MethodName) "ModulaWorks") ∈ lw_tbl := lw_at lw_m7 23 rfl
theorem q1748 : (Jvm.Cond.instanceMethod ({ cls := "ModulaWorks$Item", name := "<init>", desc := "()V" } : Jvm.MethodName)) ∈ lw_all := lw_g (lw_at lw_m7 24 rfl) rfl
theorem q1741 : (Jvm.Cond.methodLink "ModulaWorks$Sense" (706 : Nat) ({ cls := "ModulaWorks$Sense", name := "make", desc := "(ILModulaWorks$Type;I)LModulaWorks$Item;" } : Jvm.MethodName)) ∈ lw_all := lw_g (lw_at lw_m7 17 rfl) rfl
theorem q1743 : (Jvm.Cond.instanceMethod ({ cls := "ModulaWorks$Sense", name := "make", desc := "(ILModulaWorks$Type;I)LModulaWorks$Item;" } : Jvm.MethodName)) ∈ lw_all := lw_g (lw_at lw_m7 19 rfl) rfl
theorem q1826 : (Jvm.Cond.methodLink "ModulaWorks$Sense" (717 : Nat) ({ cls := "ModulaWorks$Sense", name := "emitIndexed", desc := "(II)V" } : Jvm.MethodName)) ∈ lw_all := lw_g (lw_at lw_m7 102 rfl) rfl
theorem q1828 : (Jvm.Cond.instanceMethod ({ cls := "ModulaWorks$Sense", name := "emitIndexed", desc := "(II)V" } : Jvm.MethodName)) ∈ lw_all := lw_g (lw_at lw_m7 104 rfl) rfl
theorem q1834 : (Jvm.Cond.methodLink "ModulaWorks$Sense" (723 : Nat) ({ cls := "ModulaWorks$Maker", name := "word", desc := "(I)V" } : Jvm.MethodName)) ∈ lw_all := lw_g (lw_at lw_m7 110 rfl) rfl
theorem q1823 : (Jvm.Cond.instanceMethod ({ cls := "ModulaWorks$Maker", name := "word", desc := "(I)V" } : Jvm.MethodName)) ∈ lw_all := lw_g (lw_at lw_m7 99 rfl) rfl
theorem q1824 : (Jvm.Cond.selects "ModulaWorks$Maker" ({ cls := "ModulaWorks$Maker", name := "word", desc := "(I)V" } : Jvm.MethodName) ({ cls := "ModulaWorks$Maker", name := "word", desc := "(I)V" } : Jvm.MethodName)) ∈ lw_all := lw_g (lw_at lw_m7 100 rfl) rfl
theorem q1813 : (Jvm.Cond.methodLink "ModulaWorks$Sense" (729 : Nat) ({ cls := "ModulaWorks$Sense", name := "load", desc := "(LModulaWorks$Item;)V" } : Jvm.MethodName)) ∈ lw_all := lw_g (lw_at lw_m7 89 rfl) rfl
theorem q1815 : (Jvm.Cond.instanceMethod ({ cls := "ModulaWorks$Sense", name := "load", desc := "(LModulaWorks$Item;)V" } : Jvm.MethodName)) ∈ lw_all := lw_g (lw_at lw_m7 91 rfl) rfl
theorem q1777 : (Jvm.Cond.methodLink "ModulaWorks$Sense" (732 : Nat) ({ cls := "ModulaWorks$Sense", name := "push", desc := "()V" } : Jvm.MethodName)) ∈ lw_all := lw_g (lw_at lw_m7 53 rfl) rfl
theorem q1779 : (Jvm.Cond.instanceMethod ({ cls := "ModulaWorks$Sense", name := "push", desc := "()V" } : Jvm.MethodName)) ∈ lw_all := lw_g (lw_at lw_m7 55 rfl) rfl
theorem q2131 : (Jvm.Cond.methodLink "ModulaWorks$Sense" (735 : Nat) ({ cls := "ModulaWorks$Sense", name := "loadBeside", desc := "(LModulaWorks$Item;)V" } : Jvm.MethodName)) ∈ lw_all := lw_g (lw_at lw_m8 167 rfl) rfl
theorem q2133 : (Jvm.Cond.instanceMethod ({ cls := "ModulaWorks$Sense", name := "loadBeside", desc := "(LModulaWorks$Item;)V" } : Jvm.MethodName)) ∈ lw_all := lw_g (lw_at lw_m8 169 rfl) rfl
theorem q1721 : (Jvm.Cond.methodLink "ModulaWorks$Sense" (738 : Nat) ({ cls := "ModulaWorks$Sense", name := "expression", desc := "()LModulaWorks$Item;" } : Jvm.MethodName)) ∈ lw_all := lw_g (lw_at lw_m6 237 rfl) rfl
theorem q1723 : (Jvm.Cond.instanceMethod ({ cls := "ModulaWorks$Sense", name := "expression", desc := "()LModulaWorks$Item;" } : Jvm.MethodName)) ∈ lw_all := lw_g (lw_at lw_m6 239 rfl) rfl
theorem q1794 : (Jvm.Cond.methodLinkNest "ModulaWorks$Sense" (741 : Nat) ({ cls := "ModulaWorks$Text", name := "at", desc := "(I)I" } : Jvm.MethodName) "ModulaWorks") ∈ lw_tbl := lw_at lw_m7 70 rfl
theorem q1806 : (Jvm.Cond.methodLink "ModulaWorks$Sense" (744 : Nat) ({ cls := "java/lang/Math", name := "max", desc := "(II)I" } : Jvm.MethodName)) ∈ lw_all := lw_g (lw_at lw_m7 82 rfl) rfl
theorem q1725 : (Jvm.Cond.methodLink "ModulaWorks$Sense" (750 : Nat) ({ cls := "ModulaWorks$Sense", name := "sum", desc := "()LModulaWorks$Item;" } : Jvm.MethodName)) ∈ lw_all := lw_g (lw_at lw_m7 1 rfl) rfl
theorem q1727 : (Jvm.Cond.instanceMethod ({ cls := "ModulaWorks$Sense", name := "sum", desc := "()LModulaWorks$Item;" } : Jvm.MethodName)) ∈ lw_all := lw_g (lw_at lw_m7 3 rfl) rfl
theorem q2104 : (Jvm.Cond.methodLink "ModulaWorks$Sense" (753 : Nat) ({ cls := "ModulaWorks$Sense", name := "hold", desc := "(LModulaWorks$Item;)V" } : Jvm.MethodName)) ∈ lw_all := lw_g (lw_at lw_m8 140 rfl) rfl
theorem q2106 : (Jvm.Cond.instanceMethod ({ cls := "ModulaWorks$Sense", name := "hold", desc := "(LModulaWorks$Item;)V" } : Jvm.MethodName)) ∈ lw_all := lw_g (lw_at lw_m8 142 rfl) rfl
theorem q2154 : (Jvm.Cond.methodLink "ModulaWorks$Sense" (760 : Nat) ({ cls := "ModulaWorks$Sense", name := "related", desc := "(ILModulaWorks$Item;LModulaWorks$Item;I)LModulaWorks$Item;" } : Jvm.MethodName)) ∈ lw_all := lw_g (lw_at lw_m8 190 rfl) rfl
theorem q2156 : (Jvm.Cond.instanceMethod ({ cls := "ModulaWorks$Sense", name := "related", desc := "(ILModulaWorks$Item;LModulaWorks$Item;I)LModulaWorks$Item;" } : Jvm.MethodName)) ∈ lw_all := lw_g (lw_at lw_m8 192 rfl) rfl
theorem q1857 : (Jvm.Cond.methodLink "ModulaWorks$Sense" (764 : Nat) ({ cls := "ModulaWorks$Sense", name := "weigh", desc := "(LModulaWorks$Item;I)V" } : Jvm.MethodName)) ∈ lw_all := lw_g (lw_at lw_m7 133 rfl) rfl
theorem q1859 : (Jvm.Cond.instanceMethod ({ cls := "ModulaWorks$Sense", name := "weigh", desc := "(LModulaWorks$Item;I)V" } : Jvm.MethodName)) ∈ lw_all := lw_g (lw_at lw_m7 135 rfl) rfl
theorem q2127 : (Jvm.Cond.methodLink "ModulaWorks$Sense" (775 : Nat) ({ cls := "ModulaWorks$Sense", name := "both", desc := "(LModulaWorks$Item;LModulaWorks$Item;I)V" } : Jvm.MethodName)) ∈ lw_all := lw_g (lw_at lw_m8 163 rfl) rfl
theorem q2129 : (Jvm.Cond.instanceMethod ({ cls := "ModulaWorks$Sense", name := "both", desc := "(LModulaWorks$Item;LModulaWorks$Item;I)V" } : Jvm.MethodName)) ∈ lw_all := lw_g (lw_at lw_m8 165 rfl) rfl
theorem q1843 : (Jvm.Cond.methodLink "ModulaWorks$Sense" (779 : Nat) ({ cls := "ModulaWorks$Sense", name := "call", desc := "(I)V" } : Jvm.MethodName)) ∈ lw_all := lw_g (lw_at lw_m7 119 rfl) rfl
theorem q1845 : (Jvm.Cond.instanceMethod ({ cls := "ModulaWorks$Sense", name := "call", desc := "(I)V" } : Jvm.MethodName)) ∈ lw_all := lw_g (lw_at lw_m7 121 rfl) rfl
theorem q2108 : (Jvm.Cond.methodLink "ModulaWorks$Sense" (782 : Nat) ({ cls := "ModulaWorks$Sense", name := "common", desc := "(LModulaWorks$Item;LModulaWorks$Item;)LModulaWorks$Type;" } : Jvm.MethodName)) ∈ lw_all := lw_g (lw_at lw_m8 144 rfl) rfl
theorem q2110 : (Jvm.Cond.instanceMethod ({ cls := "ModulaWorks$Sense", name := "common", desc := "(LModulaWorks$Item;LModulaWorks$Item;)LModulaWorks$Type;" } : Jvm.MethodName)) ∈ lw_all := lw_g (lw_at lw_m8 146 rfl) rfl
theorem q1852 : (Jvm.Cond.methodLink "ModulaWorks$Sense" (799 : Nat) ({ cls := "ModulaWorks$Sense", name := "emitRow", desc := "(J)V" } : Jvm.MethodName)) ∈ lw_all := lw_g (lw_at lw_m7 128 rfl) rfl
theorem q1854 : (Jvm.Cond.instanceMethod ({ cls := "ModulaWorks$Sense", name := "emitRow", desc := "(J)V" } : Jvm.MethodName)) ∈ lw_all := lw_g (lw_at lw_m7 130 rfl) rfl
theorem q1729 : (Jvm.Cond.methodLink "ModulaWorks$Sense" (805 : Nat) ({ cls := "ModulaWorks$Sense", name := "term", desc := "()LModulaWorks$Item;" } : Jvm.MethodName)) ∈ lw_all := lw_g (lw_at lw_m7 5 rfl) rfl
theorem q1731 : (Jvm.Cond.instanceMethod ({ cls := "ModulaWorks$Sense", name := "term", desc := "()LModulaWorks$Item;" } : Jvm.MethodName)) ∈ lw_all := lw_g (lw_at lw_m7 7 rfl) rfl
theorem q2100 : (Jvm.Cond.methodLink "ModulaWorks$Sense" (815 : Nat) ({ cls := "ModulaWorks$Sense", name := "reckoned", desc := "(ILModulaWorks$Item;Z)LModulaWorks$Item;" } : Jvm.MethodName)) ∈ lw_all := lw_g (lw_at lw_m8 136 rfl) rfl
theorem q2102 : (Jvm.Cond.instanceMethod ({ cls := "ModulaWorks$Sense", name := "reckoned", desc := "(ILModulaWorks$Item;Z)LModulaWorks$Item;" } : Jvm.MethodName)) ∈ lw_all := lw_g (lw_at lw_m8 138 rfl) rfl
theorem q1733 : (Jvm.Cond.methodLink "ModulaWorks$Sense" (821 : Nat) ({ cls := "ModulaWorks$Sense", name := "factor", desc := "()LModulaWorks$Item;" } : Jvm.MethodName)) ∈ lw_all := lw_g (lw_at lw_m7 9 rfl) rfl
theorem q1735 : (Jvm.Cond.instanceMethod ({ cls := "ModulaWorks$Sense", name := "factor", desc := "()LModulaWorks$Item;" } : Jvm.MethodName)) ∈ lw_all := lw_g (lw_at lw_m7 11 rfl) rfl
theorem q2079 : (Jvm.Cond.methodLink "ModulaWorks$Sense" (824 : Nat) ({ cls := "ModulaWorks$Maker", name := "forth", desc := "(II)I" } : Jvm.MethodName)) ∈ lw_all := lw_g (lw_at lw_m8 115 rfl) rfl
theorem q2080 : (Jvm.Cond.instanceMethod ({ cls := "ModulaWorks$Maker", name := "forth", desc := "(II)I" } : Jvm.MethodName)) ∈ lw_all := lw_g (lw_at lw_m8 116 rfl) rfl
theorem q2081 : (Jvm.Cond.selects "ModulaWorks$Maker" ({ cls := "ModulaWorks$Maker", name := "forth", desc := "(II)I" } : Jvm.MethodName) ({ cls := "ModulaWorks$Maker", name := "forth", desc := "(II)I" } : Jvm.MethodName)) ∈ lw_all := lw_g (lw_at lw_m8 117 rfl) rfl
theorem q2084 : (Jvm.Cond.methodLink "ModulaWorks$Sense" (827 : Nat) ({ cls := "ModulaWorks$Sense", name := "jumpIf", desc := "(LModulaWorks$Item;Z)I" } : Jvm.MethodName)) ∈ lw_all := lw_g (lw_at lw_m8 120 rfl) rfl
theorem q2086 : (Jvm.Cond.instanceMethod ({ cls := "ModulaWorks$Sense", name := "jumpIf", desc := "(LModulaWorks$Item;Z)I" } : Jvm.MethodName)) ∈ lw_all := lw_g (lw_at lw_m8 122 rfl) rfl
theorem q2088 : (Jvm.Cond.methodLink "ModulaWorks$Sense" (831 : Nat) ({ cls := "ModulaWorks$Maker", name := "land", desc := "(II)V" } : Jvm.MethodName)) ∈ lw_all := lw_g (lw_at lw_m8 124 rfl) rfl
theorem q2089 : (Jvm.Cond.instanceMethod ({ cls := "ModulaWorks$Maker", name := "land", desc := "(II)V" } : Jvm.MethodName)) ∈ lw_all := lw_g (lw_at lw_m8 125 rfl) rfl
theorem q2090 : (Jvm.Cond.selects "ModulaWorks$Maker" ({ cls := "ModulaWorks$Maker", name := "land", desc := "(II)V" } : Jvm.MethodName) ({ cls := "ModulaWorks$Maker", name := "land", desc := "(II)V" } : Jvm.MethodName)) ∈ lw_all := lw_g (lw_at lw_m8 126 rfl) rfl
theorem q2140 : (Jvm.Cond.methodLink "ModulaWorks$Sense" (846 : Nat) ({ cls := "ModulaWorks$Sense", name := "signedOf", desc := "(I)V" } : Jvm.MethodName)) ∈ lw_all := lw_g (lw_at lw_m8 176 rfl) rfl
theorem q2142 : (Jvm.Cond.instanceMethod ({ cls := "ModulaWorks$Sense", name := "signedOf", desc := "(I)V" } : Jvm.MethodName)) ∈ lw_all := lw_g (lw_at lw_m8 178 rfl) rfl
theorem q1869 : (Jvm.Cond.methodLink "ModulaWorks$Sense" (872 : Nat) ({ cls := "ModulaWorks$Sense", name := "named", desc := "()LModulaWorks$Item;" } : Jvm.MethodName)) ∈ lw_all := lw_g (lw_at lw_m7 145 rfl) rfl
theorem q1871 : (Jvm.Cond.instanceMethod ({ cls := "ModulaWorks$Sense", name := "named", desc := "()LModulaWorks$Item;" } : Jvm.MethodName)) ∈ lw_all := lw_g (lw_at lw_m7 147 rfl) rfl
theorem q1877 : (Jvm.Cond.methodLink "ModulaWorks$Sense" (874 : Nat) ({ cls := "ModulaWorks$Sense", name := "alone", desc := "(Z)V" } : Jvm.MethodName)) ∈ lw_all := lw_g (lw_at lw_m7 153 rfl) rfl
theorem q1879 : (Jvm.Cond.instanceMethod ({ cls := "ModulaWorks$Sense", name := "alone", desc := "(Z)V" } : Jvm.MethodName)) ∈ lw_all := lw_g (lw_at lw_m7 155 rfl) rfl
theorem q1893 : (Jvm.Cond.methodLink "ModulaWorks$Sense" (884 : Nat) ({ cls := "ModulaWorks$Sense", name := "variable", desc := "()LModulaWorks$Item;" } : Jvm.MethodName)) ∈ lw_all := lw_g (lw_at lw_m7 169 rfl) rfl
theorem q1895 : (Jvm.Cond.instanceMethod ({ cls := "ModulaWorks$Sense", name := "variable", desc := "()LModulaWorks$Item;" } : Jvm.MethodName)) ∈ lw_all := lw_g (lw_at lw_m7 171 rfl) rfl
theorem q1897 : (Jvm.Cond.methodLink "ModulaWorks$Sense" (889 : Nat) ({ cls := "ModulaWorks$Sense", name := "fieldInWith", desc := "()LModulaWorks$Sym;" } : Jvm.MethodName)) ∈ lw_all := lw_g (lw_at lw_m7 173 rfl) rfl
theorem q1899 : (Jvm.Cond.instanceMethod ({ cls := "ModulaWorks$Sense", name := "fieldInWith", desc := "()LModulaWorks$Sym;" } : Jvm.MethodName)) ∈ lw_all := lw_g (lw_at lw_m7 175 rfl) rfl
theorem q1916 : (Jvm.Cond.methodLink "ModulaWorks$Sense" (896 : Nat) ({ cls := "ModulaWorks$Sense", name := "simple", desc := "(LModulaWorks$Sym;)LModulaWorks$Item;" } : Jvm.MethodName)) ∈ lw_all := lw_g (lw_at lw_m7 192 rfl) rfl
theorem q1918 : (Jvm.Cond.instanceMethod ({ cls := "ModulaWorks$Sense", name := "simple", desc := "(LModulaWorks$Sym;)LModulaWorks$Item;" } : Jvm.MethodName)) ∈ lw_all := lw_g (lw_at lw_m7 194 rfl) rfl
theorem q1937 : (Jvm.Cond.methodLink "ModulaWorks$Sense" (902 : Nat) ({ cls := "ModulaWorks$Sense", name := "indexed", desc := "(LModulaWorks$Item;)LModulaWorks$Item;" } : Jvm.MethodName)) ∈ lw_all := lw_g (lw_at lw_m7 213 rfl) rfl
theorem q1939 : (Jvm.Cond.instanceMethod ({ cls := "ModulaWorks$Sense", name := "indexed", desc := "(LModulaWorks$Item;)LModulaWorks$Item;" } : Jvm.MethodName)) ∈ lw_all := lw_g (lw_at lw_m7 215 rfl) rfl
theorem q1889 : (Jvm.Cond.methodLink "ModulaWorks$Sense" (911 : Nat) ({ cls := "ModulaWorks$Sense", name := "withOf", desc := "(JJ)LModulaWorks$Scope;" } : Jvm.MethodName)) ∈ lw_all := lw_g (lw_at lw_m7 165 rfl) rfl
theorem q1891 : (Jvm.Cond.instanceMethod ({ cls := "ModulaWorks$Sense", name := "withOf", desc := "(JJ)LModulaWorks$Scope;" } : Jvm.MethodName)) ∈ lw_all := lw_g (lw_at lw_m7 167 rfl) rfl
theorem q1941 : (Jvm.Cond.methodLink "ModulaWorks$Sense" (932 : Nat) ({ cls := "ModulaWorks$Type", name := "isArray", desc := "()Z" } : Jvm.MethodName)) ∈ lw_all := lw_g (lw_at lw_m7 217 rfl) rfl
theorem q1942 : (Jvm.Cond.instanceMethod ({ cls := "ModulaWorks$Type", name := "isArray", desc := "()Z" } : Jvm.MethodName)) ∈ lw_all := lw_g (lw_at lw_m7 218 rfl) rfl
theorem q1943 : (Jvm.Cond.selects "ModulaWorks$Type" ({ cls := "ModulaWorks$Type", name := "isArray", desc := "()Z" } : Jvm.MethodName) ({ cls := "ModulaWorks$Type", name := "isArray", desc := "()Z" } : Jvm.MethodName)) ∈ lw_all := lw_g (lw_at lw_m7 219 rfl) rfl
theorem q1962 : (Jvm.Cond.methodLink "ModulaWorks$Sense" (939 : Nat) ({ cls := "ModulaWorks$Sense", name := "plainIndexed", desc := "(LModulaWorks$Item;LModulaWorks$Item;LModulaWorks$Type;Z)LModulaWorks$Item;" } : Jvm.MethodName)) ∈ lw_all := lw_g (lw_at lw_m7 238 rfl) rfl
theorem q1964 : (Jvm.Cond.instanceMethod ({ cls := "ModulaWorks$Sense", name := "plainIndexed", desc := "(LModulaWorks$Item;LModulaWorks$Item;LModulaWorks$Type;Z)LModulaWorks$Item;" } : Jvm.MethodName)) ∈ lw_all := lw_g (lw_at lw_m8 0 rfl) rfl
theorem q1958 : (Jvm.Cond.methodLink "ModulaWorks$Sense" (943 : Nat) ({ cls := "ModulaWorks$Sense", name := "times", desc := "(I)V" } : Jvm.MethodName)) ∈ lw_all := lw_g (lw_at lw_m7 234 rfl) rfl
theorem q1960 : (Jvm.Cond.instanceMethod ({ cls := "ModulaWorks$Sense", name := "times", desc := "(I)V" } : Jvm.MethodName)) ∈ lw_all := lw_g (lw_at lw_m7 236 rfl) rfl
theorem q2052 : (Jvm.Cond.methodLink "ModulaWorks$Sense" (968 : Nat) ({ cls := "ModulaWorks$Sense", name := "letterFor", desc := "(LModulaWorks$Item;LModulaWorks$Type;)LModulaWorks$Item;" } : Jvm.MethodName)) ∈ lw_all := lw_g (lw_at lw_m8 88 rfl) rfl
theorem q2054 : (Jvm.Cond.instanceMethod ({ cls := "ModulaWorks$Sense", name := "letterFor", desc := "(LModulaWorks$Item;LModulaWorks$Type;)LModulaWorks$Item;" } : Jvm.MethodName)) ∈ lw_all := lw_g (lw_at lw_m8 90 rfl) rfl
theorem q2059 : (Jvm.Cond.methodLink "ModulaWorks$Sense" (972 : Nat) ({ cls := "ModulaWorks$Sense", name := "fitOrdinal", desc := "(LModulaWorks$Item;LModulaWorks$Type;)V" } : Jvm.MethodName)) ∈ lw_all := lw_g (lw_at lw_m8 95 rfl) rfl
theorem q2061 : (Jvm.Cond.instanceMethod ({ cls := "ModulaWorks$Sense", name := "fitOrdinal", desc := "(LModulaWorks$Item;LModulaWorks$Type;)V" } : Jvm.MethodName)) ∈ lw_all := lw_g (lw_at lw_m8 97 rfl) rfl
theorem q1986 : (Jvm.Cond.methodLink "ModulaWorks$Sense" (976 : Nat) ({ cls := "ModulaWorks$Sense", name := "leastOf", desc := "(LModulaWorks$Item;)I" } : Jvm.MethodName)) ∈ lw_all := lw_g (lw_at lw_m8 22 rfl) rfl
theorem q1987 : (Jvm.Cond.static ({ cls := "ModulaWorks$Sense", name := "leastOf", desc := "(LModulaWorks$Item;)I" } : Jvm.MethodName)) ∈ lw_all := lw_g (lw_at lw_m8 23 rfl) rfl
theorem q1993 : (Jvm.Cond.methodLink "ModulaWorks$Sense" (980 : Nat) ({ cls := "ModulaWorks$Sense", name := "mostOf", desc := "(LModulaWorks$Item;)I" } : Jvm.MethodName)) ∈ lw_all := lw_g (lw_at lw_m8 29 rfl) rfl
theorem q1994 : (Jvm.Cond.static ({ cls := "ModulaWorks$Sense", name := "mostOf", desc := "(LModulaWorks$Item;)I" } : Jvm.MethodName)) ∈ lw_all := lw_g (lw_at lw_m8 30 rfl) rfl
theorem q1996 : (Jvm.Cond.methodLink "ModulaWorks$Sense" (983 : Nat) ({ cls := "ModulaWorks$Sense", name := "check", desc := "(IILModulaWorks$Type;)V" } : Jvm.MethodName)) ∈ lw_all := lw_g (lw_at lw_m8 32 rfl) rfl
theorem q1998 : (Jvm.Cond.instanceMethod ({ cls := "ModulaWorks$Sense", name := "check", desc := "(IILModulaWorks$Type;)V" } : Jvm.MethodName)) ∈ lw_all := lw_g (lw_at lw_m8 34 rfl) rfl
theorem q1989 : (Jvm.Cond.methodLink "ModulaWorks$Sense" (987 : Nat) ({ cls := "ModulaWorks$Sense", name := "isVariable", desc := "(LModulaWorks$Item;)Z" } : Jvm.MethodName)) ∈ lw_all := lw_g (lw_at lw_m8 25 rfl) rfl
theorem q1990 : (Jvm.Cond.static ({ cls := "ModulaWorks$Sense", name := "isVariable", desc := "(LModulaWorks$Item;)Z" } : Jvm.MethodName)) ∈ lw_all := lw_g (lw_at lw_m8 26 rfl) rfl
theorem q1992 : (Jvm.Cond.methodLink "ModulaWorks$Sense" (991 : Nat) ({ cls := "java/lang/Math", name := "min", desc := "(II)I" } : Jvm.MethodName)) ∈ lw_all := lw_g (lw_at lw_m8 28 rfl) rfl
theorem q2048 : (Jvm.Cond.methodLink "ModulaWorks$Sense" (1005 : Nat) ({ cls := "ModulaWorks$Sense", name := "fit", desc := "(LModulaWorks$Item;LModulaWorks$Type;)V" } : Jvm.MethodName)) ∈ lw_all := lw_g (lw_at lw_m8 84 rfl) rfl
theorem q2050 : (Jvm.Cond.instanceMethod ({ cls := "ModulaWorks$Sense", name := "fit", desc := "(LModulaWorks$Item;LModulaWorks$Type;)V" } : Jvm.MethodName)) ∈ lw_all := lw_g (lw_at lw_m8 86 rfl) rfl
theorem q2009 : (Jvm.Cond.methodLink "ModulaWorks$Sense" (1028 : Nat) ({ cls := "java/lang/Math", name := "abs", desc := "(I)I" } : Jvm.MethodName)) ∈ lw_all := lw_g (lw_at lw_m8 45 rfl) rfl
theorem q2467 : (Jvm.Cond.methodLink "ModulaWorks$Sense" (1053 : Nat) ({ cls := "ModulaWorks$Sense", name := "leaveNow", desc := "(LModulaWorks$Sym;Z)V" } : Jvm.MethodName)) ∈ lw_all := lw_g (lw_at lw_m10 23 rfl) rfl
theorem q2469 : (Jvm.Cond.instanceMethod ({ cls := "ModulaWorks$Sense", name := "leaveNow", desc := "(LModulaWorks$Sym;Z)V" } : Jvm.MethodName)) ∈ lw_all := lw_g (lw_at lw_m10 25 rfl) rfl
theorem q2326 : (Jvm.Cond.methodLink "ModulaWorks$Sense" (1059 : Nat) ({ cls := "ModulaWorks$Sense", name := "statement", desc := "()V" } : Jvm.MethodName)) ∈ lw_all := lw_g (lw_at lw_m9 122 rfl) rfl
theorem q2328 : (Jvm.Cond.instanceMethod ({ cls := "ModulaWorks$Sense", name := "statement", desc := "()V" } : Jvm.MethodName)) ∈ lw_all := lw_g (lw_at lw_m9 124 rfl) rfl
theorem q2330 : (Jvm.Cond.methodLink "ModulaWorks$Sense" (1062 : Nat) ({ cls := "ModulaWorks$Sense", name := "step", desc := "(I)V" } : Jvm.MethodName)) ∈ lw_all := lw_g (lw_at lw_m9 126 rfl) rfl
theorem q2332 : (Jvm.Cond.instanceMethod ({ cls := "ModulaWorks$Sense", name := "step", desc := "(I)V" } : Jvm.MethodName)) ∈ lw_all := lw_g (lw_at lw_m9 128 rfl) rfl
theorem q2334 : (Jvm.Cond.methodLink "ModulaWorks$Sense" (1065 : Nat) ({ cls := "ModulaWorks$Sense", name := "nameStatement", desc := "()V" } : Jvm.MethodName)) ∈ lw_all := lw_g (lw_at lw_m9 130 rfl) rfl
theorem q2336 : (Jvm.Cond.instanceMethod ({ cls := "ModulaWorks$Sense", name := "nameStatement", desc := "()V" } : Jvm.MethodName)) ∈ lw_all := lw_g (lw_at lw_m9 132 rfl) rfl
theorem q2398 : (Jvm.Cond.methodLink "ModulaWorks$Sense" (1068 : Nat) ({ cls := "ModulaWorks$Sense", name := "choose", desc := "(I)V" } : Jvm.MethodName)) ∈ lw_all := lw_g (lw_at lw_m9 194 rfl) rfl
theorem q2400 : (Jvm.Cond.instanceMethod ({ cls := "ModulaWorks$Sense", name := "choose", desc := "(I)V" } : Jvm.MethodName)) ∈ lw_all := lw_g (lw_at lw_m9 196 rfl) rfl
theorem q2418 : (Jvm.Cond.methodLink "ModulaWorks$Sense" (1074 : Nat) ({ cls := "ModulaWorks$Sense", name := "whileStatement", desc := "(I)V" } : Jvm.MethodName)) ∈ lw_all := lw_g (lw_at lw_m9 214 rfl) rfl
theorem q2420 : (Jvm.Cond.instanceMethod ({ cls := "ModulaWorks$Sense", name := "whileStatement", desc := "(I)V" } : Jvm.MethodName)) ∈ lw_all := lw_g (lw_at lw_m9 216 rfl) rfl
theorem q2422 : (Jvm.Cond.methodLink "ModulaWorks$Sense" (1077 : Nat) ({ cls := "ModulaWorks$Sense", name := "repeatStatement", desc := "(I)V" } : Jvm.MethodName)) ∈ lw_all := lw_g (lw_at lw_m9 218 rfl) rfl
theorem q2424 : (Jvm.Cond.instanceMethod ({ cls := "ModulaWorks$Sense", name := "repeatStatement", desc := "(I)V" } : Jvm.MethodName)) ∈ lw_all := lw_g (lw_at lw_m9 220 rfl) rfl
theorem q2430 : (Jvm.Cond.methodLink "ModulaWorks$Sense" (1083 : Nat) ({ cls := "ModulaWorks$Sense", name := "forStatement", desc := "(I)V" } : Jvm.MethodName)) ∈ lw_all := lw_g (lw_at lw_m9 226 rfl) rfl
theorem q2432 : (Jvm.Cond.instanceMethod ({ cls := "ModulaWorks$Sense", name := "forStatement", desc := "(I)V" } : Jvm.MethodName)) ∈ lw_all := lw_g (lw_at lw_m9 228 rfl) rfl
theorem q2402 : (Jvm.Cond.methodLink "ModulaWorks$Sense" (1092 : Nat) ({ cls := "ModulaWorks$Sense", name := "condition", desc := "(Z)I" } : Jvm.MethodName)) ∈ lw_all := lw_g (lw_at lw_m9 198 rfl) rfl
theorem q2404 : (Jvm.Cond.instanceMethod ({ cls := "ModulaWorks$Sense", name := "condition", desc := "(Z)I" } : Jvm.MethodName)) ∈ lw_all := lw_g (lw_at lw_m9 200 rfl) rfl
theorem q2434 : (Jvm.Cond.methodLink "ModulaWorks$Sense" (1104 : Nat) ({ cls := "ModulaWorks$Sense", name := "home", desc := "()LModulaWorks$Scope;" } : Jvm.MethodName)) ∈ lw_all := lw_g (lw_at lw_m9 230 rfl) rfl
theorem q2436 : (Jvm.Cond.instanceMethod ({ cls := "ModulaWorks$Sense", name := "home", desc := "()LModulaWorks$Scope;" } : Jvm.MethodName)) ∈ lw_all := lw_g (lw_at lw_m9 232 rfl) rfl
theorem q2438 : (Jvm.Cond.methodLink "ModulaWorks$Sense" (1108 : Nat) ({ cls := "ModulaWorks$Sense", name := "store", desc := "(LModulaWorks$Sym;LModulaWorks$Type;)V" } : Jvm.MethodName)) ∈ lw_all := lw_g (lw_at lw_m9 234 rfl) rfl
theorem q2440 : (Jvm.Cond.instanceMethod ({ cls := "ModulaWorks$Sense", name := "store", desc := "(LModulaWorks$Sym;LModulaWorks$Type;)V" } : Jvm.MethodName)) ∈ lw_all := lw_g (lw_at lw_m9 236 rfl) rfl
theorem q2442 : (Jvm.Cond.methodLink "ModulaWorks$Sense" (1112 : Nat) ({ cls := "ModulaWorks$Sense", name := "loadOf", desc := "(LModulaWorks$Sym;)V" } : Jvm.MethodName)) ∈ lw_all := lw_g (lw_at lw_m9 238 rfl) rfl
theorem q2444 : (Jvm.Cond.instanceMethod ({ cls := "ModulaWorks$Sense", name := "loadOf", desc := "(LModulaWorks$Sym;)V" } : Jvm.MethodName)) ∈ lw_all := lw_g (lw_at lw_m10 0 rfl) rfl
theorem q2446 : (Jvm.Cond.methodLink "ModulaWorks$Sense" (1115 : Nat) ({ cls := "ModulaWorks$Sense", name := "bound", desc := "(I)V" } : Jvm.MethodName)) ∈ lw_all := lw_g (lw_at lw_m10 2 rfl) rfl
theorem q2448 : (Jvm.Cond.instanceMethod ({ cls := "ModulaWorks$Sense", name := "bound", desc := "(I)V" } : Jvm.MethodName)) ∈ lw_all := lw_g (lw_at lw_m10 4 rfl) rfl
theorem q2450 : (Jvm.Cond.methodLink "ModulaWorks$Sense" (1117 : Nat) ({ cls := "ModulaWorks$Sense", name := "order", desc := "(LModulaWorks$Type;)V" } : Jvm.MethodName)) ∈ lw_all := lw_g (lw_at lw_m10 6 rfl) rfl
theorem q2452 : (Jvm.Cond.instanceMethod ({ cls := "ModulaWorks$Sense", name := "order", desc := "(LModulaWorks$Type;)V" } : Jvm.MethodName)) ∈ lw_all := lw_g (lw_at lw_m10 8 rfl) rfl
theorem q2455 : (Jvm.Cond.methodLink "ModulaWorks$Sense" (1121 : Nat) ({ cls := "ModulaWorks$Sense", name := "emitRow24", desc := "(I)V" } : Jvm.MethodName)) ∈ lw_all := lw_g (lw_at lw_m10 11 rfl) rfl
theorem q2457 : (Jvm.Cond.instanceMethod ({ cls := "ModulaWorks$Sense", name := "emitRow24", desc := "(I)V" } : Jvm.MethodName)) ∈ lw_all := lw_g (lw_at lw_m10 13 rfl) rfl
theorem q2394 : (Jvm.Cond.methodLink "ModulaWorks$Sense" (1124 : Nat) ({ cls := "ModulaWorks$Sense", name := "put", desc := "(LModulaWorks$Type;)V" } : Jvm.MethodName)) ∈ lw_all := lw_g (lw_at lw_m9 190 rfl) rfl
theorem q2396 : (Jvm.Cond.instanceMethod ({ cls := "ModulaWorks$Sense", name := "put", desc := "(LModulaWorks$Type;)V" } : Jvm.MethodName)) ∈ lw_all := lw_g (lw_at lw_m9 192 rfl) rfl
theorem q2338 : (Jvm.Cond.methodLink "ModulaWorks$Sense" (1127 : Nat) ({ cls := "ModulaWorks$Sense", name := "standard", desc := "(I)V" } : Jvm.MethodName)) ∈ lw_all := lw_g (lw_at lw_m9 134 rfl) rfl
theorem q2340 : (Jvm.Cond.instanceMethod ({ cls := "ModulaWorks$Sense", name := "standard", desc := "(I)V" } : Jvm.MethodName)) ∈ lw_all := lw_g (lw_at lw_m9 136 rfl) rfl
theorem q2386 : (Jvm.Cond.methodLink "ModulaWorks$Sense" (1129 : Nat) ({ cls := "ModulaWorks$Sense", name := "assign", desc := "(LModulaWorks$Item;)V" } : Jvm.MethodName)) ∈ lw_all := lw_g (lw_at lw_m9 182 rfl) rfl
theorem q2388 : (Jvm.Cond.instanceMethod ({ cls := "ModulaWorks$Sense", name := "assign", desc := "(LModulaWorks$Item;)V" } : Jvm.MethodName)) ∈ lw_all := lw_g (lw_at lw_m9 184 rfl) rfl
theorem q2342 : (Jvm.Cond.methodLink "ModulaWorks$Sense" (1136 : Nat) ({ cls := "ModulaWorks$Sense", name := "leftBracket", desc := "()V" } : Jvm.MethodName)) ∈ lw_all := lw_g (lw_at lw_m9 138 rfl) rfl
theorem q2344 : (Jvm.Cond.instanceMethod ({ cls := "ModulaWorks$Sense", name := "leftBracket", desc := "()V" } : Jvm.MethodName)) ∈ lw_all := lw_g (lw_at lw_m9 140 rfl) rfl
theorem q2370 : (Jvm.Cond.methodLink "ModulaWorks$Sense" (1152 : Nat) ({ cls := "ModulaWorks$Sense", name := "valueHeld", desc := "(LModulaWorks$Type;I)V" } : Jvm.MethodName)) ∈ lw_all := lw_g (lw_at lw_m9 166 rfl) rfl
theorem q2372 : (Jvm.Cond.instanceMethod ({ cls := "ModulaWorks$Sense", name := "valueHeld", desc := "(LModulaWorks$Type;I)V" } : Jvm.MethodName)) ∈ lw_all := lw_g (lw_at lw_m9 168 rfl) rfl
theorem q2350 : (Jvm.Cond.methodLink "ModulaWorks$Sense" (1164 : Nat) ({ cls := "ModulaWorks$Sense", name := "weighArgument", desc := "(LModulaWorks$Item;I)V" } : Jvm.MethodName)) ∈ lw_all := lw_g (lw_at lw_m9 146 rfl) rfl
theorem q2352 : (Jvm.Cond.instanceMethod ({ cls := "ModulaWorks$Sense", name := "weighArgument", desc := "(LModulaWorks$Item;I)V" } : Jvm.MethodName)) ∈ lw_all := lw_g (lw_at lw_m9 148 rfl) rfl
theorem q607 : (Jvm.Cond.methodLink "ModulaWorks$Pool" (1 : Nat) ({ cls := "java/lang/Object", name := "<init>", desc := "()V" } : Jvm.MethodName)) ∈ lw_all := lw_g (lw_at lw_m2 83 rfl) rfl
theorem q1387 : (Jvm.Cond.methodLink "ModulaWorks$Pool" (37 : Nat) ({ cls := "java/lang/System", name := "arraycopy", desc := "(Ljava/lang/Object;ILjava/lang/Object;II)V" } : Jvm.MethodName)) ∈ lw_all := lw_g (lw_at lw_m5 143 rfl) rfl
theorem q1430 : (Jvm.Cond.methodLinkNest "ModulaWorks$Pool" (43 : Nat) ({ cls := "ModulaWorks$Type", name := "<init>", desc := "()V" } : Jvm.MethodName) "ModulaWorks") ∈ lw_tbl := lw_at lw_m5 186 rfl
theorem q1431 : (Jvm.Cond.instanceMethod ({ cls := "ModulaWorks$Type", name := "<init>", desc := "()V" } : Jvm.MethodName)) ∈ lw_all := lw_g (lw_at lw_m5 187 rfl) rfl
theorem q1483 : (Jvm.Cond.methodLink "ModulaWorks$Pool" (44 : Nat) ({ cls := "ModulaWorks$Type", name := "begin", desc := "(II)V" } : Jvm.MethodName)) ∈ lw_all := lw_g (lw_at lw_m5 239 rfl) rfl
theorem q1484 : (Jvm.Cond.instanceMethod ({ cls := "ModulaWorks$Type", name := "begin", desc := "(II)V" } : Jvm.MethodName)) ∈ lw_all := lw_g (lw_at lw_m6 0 rfl) rfl
theorem q1485 : (Jvm.Cond.selects "ModulaWorks$Type" ({ cls := "ModulaWorks$Type", name := "begin", desc := "(II)V" } : Jvm.MethodName) ({ cls := "ModulaWorks$Type", name := "begin", desc := "(II)V" } : Jvm.MethodName)) ∈ lw_all := lw_g (lw_at lw_m6 1 rfl) rfl
theorem q1510 : (Jvm.Cond.methodLinkNest "ModulaWorks$Pool" (48 : Nat) ({ cls := "ModulaWorks$Sym", name := "<init>", desc := "()V" } : Jvm.MethodName) "ModulaWorks") ∈ lw_tbl := lw_at lw_m6 26 rfl
theorem q1511 : (Jvm.Cond.instanceMethod ({ cls := "ModulaWorks$Sym", name := "<init>", desc := "()V" } : Jvm.MethodName)) ∈ lw_all := lw_g (lw_at lw_m6 27 rfl) rfl
theorem q1612 : (Jvm.Cond.methodLink "ModulaWorks$Pool" (49 : Nat) ({ cls := "ModulaWorks$Sym", name := "begin", desc := "(JJILModulaWorks$Type;I)V" } : Jvm.MethodName)) ∈ lw_all := lw_g (lw_at lw_m6 128 rfl) rfl
theorem q1613 : (Jvm.Cond.instanceMethod ({ cls := "ModulaWorks$Sym", name := "begin", desc := "(JJILModulaWorks$Type;I)V" } : Jvm.MethodName)) ∈ lw_all := lw_g (lw_at lw_m6 129 rfl) rfl
theorem q1614 : (Jvm.Cond.selects "ModulaWorks$Sym" ({ cls := "ModulaWorks$Sym", name := "begin", desc := "(JJILModulaWorks$Type;I)V" } : Jvm.MethodName) ({ cls := "ModulaWorks$Sym", name := "begin", desc := "(JJILModulaWorks$Type;I)V" } : Jvm.MethodName)) ∈ lw_all := lw_g (lw_at lw_m6 130 rfl) rfl
theorem q1389 : (Jvm.Cond.methodLinkNest "ModulaWorks$Pool" (52 : Nat) ({ cls := "ModulaWorks$Scope", name := "<init>", desc := "()V" } : Jvm.MethodName) "ModulaWorks") ∈ lw_tbl := lw_at lw_m5 145 rfl
theorem q1390 : (Jvm.Cond.instanceMethod ({ cls := "ModulaWorks$Scope", name := "<init>", desc := "()V" } : Jvm.MethodName)) ∈ lw_all := lw_g (lw_at lw_m5 146 rfl) rfl
theorem q1417 : (Jvm.Cond.methodLink "ModulaWorks$Pool" (53 : Nat) ({ cls := "ModulaWorks$Scope", name := "begin", desc := "(LModulaWorks$Scope;)V" } : Jvm.MethodName)) ∈ lw_all := lw_g (lw_at lw_m5 173 rfl) rfl
theorem q1418 : (Jvm.Cond.instanceMethod ({ cls := "ModulaWorks$Scope", name := "begin", desc := "(LModulaWorks$Scope;)V" } : Jvm.MethodName)) ∈ lw_all := lw_g (lw_at lw_m5 174 rfl) rfl
theorem q1419 : (Jvm.Cond.selects "ModulaWorks$Scope" ({ cls := "ModulaWorks$Scope", name := "begin", desc := "(LModulaWorks$Scope;)V" } : Jvm.MethodName) ({ cls := "ModulaWorks$Scope", name := "begin", desc := "(LModulaWorks$Scope;)V" } : Jvm.MethodName)) ∈ lw_all := lw_g (lw_at lw_m5 175 rfl) rfl
theorem q638 : (Jvm.Cond.methodLink "ModulaWorks$Maker" (1 : Nat) ({ cls := "java/lang/Object", name := "<init>", desc := "()V" } : Jvm.MethodName)) ∈ lw_all := lw_g (lw_at lw_m2 114 rfl) rfl
theorem q1821 : (Jvm.Cond.methodLink "ModulaWorks$Maker" (19 : Nat) ({ cls := "ModulaWorks$Maker", name := "emit", desc := "(I)V" } : Jvm.MethodName)) ∈ lw_all := lw_g (lw_at lw_m7 97 rfl) rfl
theorem q1822 : (Jvm.Cond.methodLink "ModulaWorks$Maker" (23 : Nat) ({ cls := "ModulaWorks$Maker", name := "word", desc := "(I)V" } : Jvm.MethodName)) ∈ lw_all := lw_g (lw_at lw_m7 98 rfl) rfl
theorem q2083 : (Jvm.Cond.methodLink "ModulaWorks$Maker" (26 : Nat) ({ cls := "ModulaWorks$Maker", name := "op", desc := "(II)V" } : Jvm.MethodName)) ∈ lw_all := lw_g (lw_at lw_m8 119 rfl) rfl
theorem q2092 : (Jvm.Cond.methodLink "ModulaWorks$Maker" (30 : Nat) ({ cls := "ModulaWorks$Maker", name := "wordAt", desc := "(I)I" } : Jvm.MethodName)) ∈ lw_all := lw_g (lw_at lw_m8 128 rfl) rfl
theorem q2093 : (Jvm.Cond.instanceMethod ({ cls := "ModulaWorks$Maker", name := "wordAt", desc := "(I)I" } : Jvm.MethodName)) ∈ lw_all := lw_g (lw_at lw_m8 129 rfl) rfl
theorem q2094 : (Jvm.Cond.selects "ModulaWorks$Maker" ({ cls := "ModulaWorks$Maker", name := "wordAt", desc := "(I)I" } : Jvm.MethodName) ({ cls := "ModulaWorks$Maker", name := "wordAt", desc := "(I)I" } : Jvm.MethodName)) ∈ lw_all := lw_g (lw_at lw_m8 130 rfl) rfl
theorem q2096 : (Jvm.Cond.methodLink "ModulaWorks$Maker" (34 : Nat) ({ cls := "ModulaWorks$Maker", name := "setWord", desc := "(II)V" } : Jvm.MethodName)) ∈ lw_all := lw_g (lw_at lw_m8 132 rfl) rfl
theorem q2097 : (Jvm.Cond.instanceMethod ({ cls := "ModulaWorks$Maker", name := "setWord", desc := "(II)V" } : Jvm.MethodName)) ∈ lw_all := lw_g (lw_at lw_m8 133 rfl) rfl
theorem q2098 : (Jvm.Cond.selects "ModulaWorks$Maker" ({ cls := "ModulaWorks$Maker", name := "setWord", desc := "(II)V" } : Jvm.MethodName) ({ cls := "ModulaWorks$Maker", name := "setWord", desc := "(II)V" } : Jvm.MethodName)) ∈ lw_all := lw_g (lw_at lw_m8 134 rfl) rfl
theorem q836 : (Jvm.Cond.methodLink "ModulaWorks$Kernel" (3 : Nat) ({ cls := "java/lang/Object", name := "<init>", desc := "()V" } : Jvm.MethodName)) ∈ lw_all := lw_g (lw_at lw_m3 72 rfl) rfl
theorem q899 : (Jvm.Cond.methodLink "ModulaWorks$Kernel" (164 : Nat) ({ cls := "ModulaWorks$Kernel", name := "entry", desc := "(ILjava/lang/String;)V" } : Jvm.MethodName)) ∈ lw_all := lw_g (lw_at lw_m3 135 rfl) rfl
theorem q901 : (Jvm.Cond.instanceMethod ({ cls := "ModulaWorks$Kernel", name := "entry", desc := "(ILjava/lang/String;)V" } : Jvm.MethodName)) ∈ lw_all := lw_g (lw_at lw_m3 137 rfl) rfl
theorem q903 : (Jvm.Cond.methodLink "ModulaWorks$Kernel" (168 : Nat) ({ cls := "ModulaWorks$Kernel", name := "read", desc := "(Ljava/lang/String;)V" } : Jvm.MethodName)) ∈ lw_all := lw_g (lw_at lw_m3 139 rfl) rfl
theorem q905 : (Jvm.Cond.instanceMethod ({ cls := "ModulaWorks$Kernel", name := "read", desc := "(Ljava/lang/String;)V" } : Jvm.MethodName)) ∈ lw_all := lw_g (lw_at lw_m3 141 rfl) rfl
theorem q1052 : (Jvm.Cond.methodLink "ModulaWorks$Kernel" (177 : Nat) ({ cls := "java/lang/String", name := "equals", desc := "(Ljava/lang/Object;)Z" } : Jvm.MethodName)) ∈ lw_all := lw_g (lw_at lw_m4 48 rfl) rfl
theorem q1053 : (Jvm.Cond.instanceMethod ({ cls := "java/lang/String", name := "equals", desc := "(Ljava/lang/Object;)Z" } : Jvm.MethodName)) ∈ lw_all := lw_g (lw_at lw_m4 49 rfl) rfl
theorem q1054 : (Jvm.Cond.selects "java/lang/String" ({ cls := "java/lang/String", name := "equals", desc := "(Ljava/lang/Object;)Z" } : Jvm.MethodName) ({ cls := "java/lang/String", name := "equals", desc := "(Ljava/lang/Object;)Z" } : Jvm.MethodName)) ∈ lw_all := lw_g (lw_at lw_m4 50 rfl) rfl
theorem q907 : (Jvm.Cond.methodLink "ModulaWorks$Kernel" (181 : Nat) ({ cls := "java/lang/String", name := "length", desc := "()I" } : Jvm.MethodName)) ∈ lw_all := lw_g (lw_at lw_m3 143 rfl) rfl
theorem q917 : (Jvm.Cond.methodLink "ModulaWorks$Kernel" (185 : Nat) ({ cls := "java/lang/String", name := "charAt", desc := "(I)C" } : Jvm.MethodName)) ∈ lw_all := lw_g (lw_at lw_m3 153 rfl) rfl
theorem q955 : (Jvm.Cond.methodLink "ModulaWorks$Kernel" (189 : Nat) ({ cls := "java/lang/String", name := "substring", desc := "(II)Ljava/lang/String;" } : Jvm.MethodName)) ∈ lw_all := lw_g (lw_at lw_m3 191 rfl) rfl
theorem q956 : (Jvm.Cond.instanceMethod ({ cls := "java/lang/String", name := "substring", desc := "(II)Ljava/lang/String;" } : Jvm.MethodName)) ∈ lw_all := lw_g (lw_at lw_m3 192 rfl) rfl
theorem q957 : (Jvm.Cond.selects "java/lang/String" ({ cls := "java/lang/String", name := "substring", desc := "(II)Ljava/lang/String;" } : Jvm.MethodName) ({ cls := "java/lang/String", name := "substring", desc := "(II)Ljava/lang/String;" } : Jvm.MethodName)) ∈ lw_all := lw_g (lw_at lw_m3 193 rfl) rfl
theorem q1039 : (Jvm.Cond.methodLink "ModulaWorks$Kernel" (193 : Nat) ({ cls := "ModulaWorks$Kernel", name := "token", desc := "(Ljava/lang/String;)V" } : Jvm.MethodName)) ∈ lw_all := lw_g (lw_at lw_m4 35 rfl) rfl
theorem q1041 : (Jvm.Cond.instanceMethod ({ cls := "ModulaWorks$Kernel", name := "token", desc := "(Ljava/lang/String;)V" } : Jvm.MethodName)) ∈ lw_all := lw_g (lw_at lw_m4 37 rfl) rfl
theorem q1043 : (Jvm.Cond.methodLink "ModulaWorks$Kernel" (196 : Nat) ({ cls := "java/lang/String", name := "substring", desc := "(I)Ljava/lang/String;" } : Jvm.MethodName)) ∈ lw_all := lw_g (lw_at lw_m4 39 rfl) rfl
theorem q1044 : (Jvm.Cond.instanceMethod ({ cls := "java/lang/String", name := "substring", desc := "(I)Ljava/lang/String;" } : Jvm.MethodName)) ∈ lw_all := lw_g (lw_at lw_m4 40 rfl) rfl
theorem q1045 : (Jvm.Cond.selects "java/lang/String" ({ cls := "java/lang/String", name := "substring", desc := "(I)Ljava/lang/String;" } : Jvm.MethodName) ({ cls := "java/lang/String", name := "substring", desc := "(I)Ljava/lang/String;" } : Jvm.MethodName)) ∈ lw_all := lw_g (lw_at lw_m4 41 rfl) rfl
theorem q1048 : (Jvm.Cond.methodLink "ModulaWorks$Kernel" (199 : Nat) ({ cls := "ModulaWorks$Kernel", name := "find", desc := "(Ljava/lang/String;)I" } : Jvm.MethodName)) ∈ lw_all := lw_g (lw_at lw_m4 44 rfl) rfl
theorem q1050 : (Jvm.Cond.instanceMethod ({ cls := "ModulaWorks$Kernel", name := "find", desc := "(Ljava/lang/String;)I" } : Jvm.MethodName)) ∈ lw_all := lw_g (lw_at lw_m4 46 rfl) rfl
theorem q1060 : (Jvm.Cond.methodLink "ModulaWorks$Kernel" (203 : Nat) ({ cls := "ModulaWorks$Kernel", name := "emit", desc := "(I)V" } : Jvm.MethodName)) ∈ lw_all := lw_g (lw_at lw_m4 56 rfl) rfl
theorem q1062 : (Jvm.Cond.instanceMethod ({ cls := "ModulaWorks$Kernel", name := "emit", desc := "(I)V" } : Jvm.MethodName)) ∈ lw_all := lw_g (lw_at lw_m4 58 rfl) rfl
theorem q1064 : (Jvm.Cond.methodLink "ModulaWorks$Kernel" (207 : Nat) ({ cls := "ModulaWorks$Kernel", name := "digit", desc := "(C)I" } : Jvm.MethodName)) ∈ lw_all := lw_g (lw_at lw_m4 60 rfl) rfl
theorem q1065 : (Jvm.Cond.static ({ cls := "ModulaWorks$Kernel", name := "digit", desc := "(C)I" } : Jvm.MethodName)) ∈ lw_all := lw_g (lw_at lw_m4 61 rfl) rfl
theorem q1101 : (Jvm.Cond.methodLink "ModulaWorks$Program" (3 : Nat) ({ cls := "java/lang/Object", name := "<init>", desc := "()V" } : Jvm.MethodName)) ∈ lw_all := lw_g (lw_at lw_m4 97 rfl) rfl
theorem q1104 : (Jvm.Cond.methodLink "ModulaWorks$Program" (11 : Nat) ({ cls := "ModulaWorks$Chip", name := "<init>", desc := "(LModulaWorks$Ports;)V" } : Jvm.MethodName)) ∈ lw_all := lw_g (lw_at lw_m4 100 rfl) rfl
theorem q2502 : (Jvm.Cond.methodLink "ModulaWorks$Program" (44 : Nat) ({ cls := "java/lang/System", name := "arraycopy", desc := "(Ljava/lang/Object;ILjava/lang/Object;II)V" } : Jvm.MethodName)) ∈ lw_all := lw_g (lw_at lw_m10 58 rfl) rfl
theorem q2504 : (Jvm.Cond.methodLink "ModulaWorks$Program" (64 : Nat) ({ cls := "ModulaWorks$Chip", name := "pokeWord", desc := "(II)V" } : Jvm.MethodName)) ∈ lw_all := lw_g (lw_at lw_m10 60 rfl) rfl
theorem q2505 : (Jvm.Cond.instanceMethod ({ cls := "ModulaWorks$Chip", name := "pokeWord", desc := "(II)V" } : Jvm.MethodName)) ∈ lw_all := lw_g (lw_at lw_m10 61 rfl) rfl
theorem q2506 : (Jvm.Cond.selects "ModulaWorks$Chip" ({ cls := "ModulaWorks$Chip", name := "pokeWord", desc := "(II)V" } : Jvm.MethodName) ({ cls := "ModulaWorks$Chip", name := "pokeWord", desc := "(II)V" } : Jvm.MethodName)) ∈ lw_all := lw_g (lw_at lw_m10 62 rfl) rfl
theorem q2522 : (Jvm.Cond.methodLink "ModulaWorks$Program" (109 : Nat) ({ cls := "ModulaWorks$Chip", name := "step", desc := "()V" } : Jvm.MethodName)) ∈ lw_all := lw_g (lw_at lw_m10 78 rfl) rfl
theorem q2523 : (Jvm.Cond.instanceMethod ({ cls := "ModulaWorks$Chip", name := "step", desc := "()V" } : Jvm.MethodName)) ∈ lw_all := lw_g (lw_at lw_m10 79 rfl) rfl
theorem q2524 : (Jvm.Cond.selects "ModulaWorks$Chip" ({ cls := "ModulaWorks$Chip", name := "step", desc := "()V" } : Jvm.MethodName) ({ cls := "ModulaWorks$Chip", name := "step", desc := "()V" } : Jvm.MethodName)) ∈ lw_all := lw_g (lw_at lw_m10 80 rfl) rfl
theorem q2722 : (Jvm.Cond.methodLink "ModulaWorks$Program" (112 : Nat) ({ cls := "ModulaWorks$Program", name := "step", desc := "(LModulaWorks$Chip;)V" } : Jvm.MethodName)) ∈ lw_all := lw_g (lw_at lw_m11 38 rfl) rfl
theorem q2724 : (Jvm.Cond.instanceMethod ({ cls := "ModulaWorks$Program", name := "step", desc := "(LModulaWorks$Chip;)V" } : Jvm.MethodName)) ∈ lw_all := lw_g (lw_at lw_m11 40 rfl) rfl
theorem q2729 : (Jvm.Cond.methodLink "ModulaWorks$Program" (115 : Nat) ({ cls := "ModulaWorks$Program", name := "stop", desc := "(LModulaWorks$Chip;I)V" } : Jvm.MethodName)) ∈ lw_all := lw_g (lw_at lw_m11 45 rfl) rfl
theorem q2731 : (Jvm.Cond.instanceMethod ({ cls := "ModulaWorks$Program", name := "stop", desc := "(LModulaWorks$Chip;I)V" } : Jvm.MethodName)) ∈ lw_all := lw_g (lw_at lw_m11 47 rfl) rfl
theorem q2727 : (Jvm.Cond.methodLink "ModulaWorks$Program" (120 : Nat) ({ cls := "ModulaWorks$Chip", name := "hl", desc := "()I" } : Jvm.MethodName)) ∈ lw_all := lw_g (lw_at lw_m11 43 rfl) rfl
theorem q2546 : (Jvm.Cond.instanceMethod ({ cls := "ModulaWorks$Chip", name := "hl", desc := "()I" } : Jvm.MethodName)) ∈ lw_all := lw_g (lw_at lw_m10 102 rfl) rfl
theorem q2547 : (Jvm.Cond.selects "ModulaWorks$Chip" ({ cls := "ModulaWorks$Chip", name := "hl", desc := "()I" } : Jvm.MethodName) ({ cls := "ModulaWorks$Chip", name := "hl", desc := "()I" } : Jvm.MethodName)) ∈ lw_all := lw_g (lw_at lw_m10 103 rfl) rfl
theorem q2728 : (Jvm.Cond.methodLink "ModulaWorks$Program" (124 : Nat) ({ cls := "ModulaWorks$Chip", name := "word", desc := "(I)I" } : Jvm.MethodName)) ∈ lw_all := lw_g (lw_at lw_m11 44 rfl) rfl
theorem q2646 : (Jvm.Cond.instanceMethod ({ cls := "ModulaWorks$Chip", name := "word", desc := "(I)I" } : Jvm.MethodName)) ∈ lw_all := lw_g (lw_at lw_m10 202 rfl) rfl
theorem q2647 : (Jvm.Cond.selects "ModulaWorks$Chip" ({ cls := "ModulaWorks$Chip", name := "word", desc := "(I)I" } : Jvm.MethodName) ({ cls := "ModulaWorks$Chip", name := "word", desc := "(I)I" } : Jvm.MethodName)) ∈ lw_all := lw_g (lw_at lw_m10 203 rfl) rfl
theorem q1107 : (Jvm.Cond.methodLink "ModulaWorks$Chip" (1 : Nat) ({ cls := "java/lang/Object", name := "<init>", desc := "()V" } : Jvm.MethodName)) ∈ lw_all := lw_g (lw_at lw_m4 103 rfl) rfl
theorem q2530 : (Jvm.Cond.methodLink "ModulaWorks$Chip" (26 : Nat) ({ cls := "ModulaWorks$Chip", name := "peek", desc := "(I)I" } : Jvm.MethodName)) ∈ lw_all := lw_g (lw_at lw_m10 86 rfl) rfl
theorem q2531 : (Jvm.Cond.instanceMethod ({ cls := "ModulaWorks$Chip", name := "peek", desc := "(I)I" } : Jvm.MethodName)) ∈ lw_all := lw_g (lw_at lw_m10 87 rfl) rfl
theorem q2532 : (Jvm.Cond.selects "ModulaWorks$Chip" ({ cls := "ModulaWorks$Chip", name := "peek", desc := "(I)I" } : Jvm.MethodName) ({ cls := "ModulaWorks$Chip", name := "peek", desc := "(I)I" } : Jvm.MethodName)) ∈ lw_all := lw_g (lw_at lw_m10 88 rfl) rfl
theorem q2508 : (Jvm.Cond.methodLink "ModulaWorks$Chip" (30 : Nat) ({ cls := "ModulaWorks$Chip", name := "poke", desc := "(II)V" } : Jvm.MethodName)) ∈ lw_all := lw_g (lw_at lw_m10 64 rfl) rfl
theorem q2509 : (Jvm.Cond.instanceMethod ({ cls := "ModulaWorks$Chip", name := "poke", desc := "(II)V" } : Jvm.MethodName)) ∈ lw_all := lw_g (lw_at lw_m10 65 rfl) rfl
theorem q2510 : (Jvm.Cond.selects "ModulaWorks$Chip" ({ cls := "ModulaWorks$Chip", name := "poke", desc := "(II)V" } : Jvm.MethodName) ({ cls := "ModulaWorks$Chip", name := "poke", desc := "(II)V" } : Jvm.MethodName)) ∈ lw_all := lw_g (lw_at lw_m10 66 rfl) rfl
theorem q2526 : (Jvm.Cond.methodLink "ModulaWorks$Chip" (38 : Nat) ({ cls := "ModulaWorks$Chip", name := "next", desc := "()I" } : Jvm.MethodName)) ∈ lw_all := lw_g (lw_at lw_m10 82 rfl) rfl
theorem q2528 : (Jvm.Cond.instanceMethod ({ cls := "ModulaWorks$Chip", name := "next", desc := "()I" } : Jvm.MethodName)) ∈ lw_all := lw_g (lw_at lw_m10 84 rfl) rfl
theorem q2545 : (Jvm.Cond.methodLink "ModulaWorks$Chip" (45 : Nat) ({ cls := "ModulaWorks$Chip", name := "hl", desc := "()I" } : Jvm.MethodName)) ∈ lw_all := lw_g (lw_at lw_m10 101 rfl) rfl
theorem q2629 : (Jvm.Cond.methodLink "ModulaWorks$Chip" (54 : Nat) ({ cls := "ModulaWorks$Chip", name := "setPair", desc := "(II)V" } : Jvm.MethodName)) ∈ lw_all := lw_g (lw_at lw_m10 185 rfl) rfl
theorem q2631 : (Jvm.Cond.instanceMethod ({ cls := "ModulaWorks$Chip", name := "setPair", desc := "(II)V" } : Jvm.MethodName)) ∈ lw_all := lw_g (lw_at lw_m10 187 rfl) rfl
theorem q2541 : (Jvm.Cond.methodLink "ModulaWorks$Chip" (60 : Nat) ({ cls := "ModulaWorks$Chip", name := "main", desc := "()I" } : Jvm.MethodName)) ∈ lw_all := lw_g (lw_at lw_m10 97 rfl) rfl
theorem q2543 : (Jvm.Cond.instanceMethod ({ cls := "ModulaWorks$Chip", name := "main", desc := "()I" } : Jvm.MethodName)) ∈ lw_all := lw_g (lw_at lw_m10 99 rfl) rfl
theorem q2617 : (Jvm.Cond.methodLink "ModulaWorks$Chip" (63 : Nat) ({ cls := "ModulaWorks$Chip", name := "pairAt", desc := "(I)I" } : Jvm.MethodName)) ∈ lw_all := lw_g (lw_at lw_m10 173 rfl) rfl
theorem q2619 : (Jvm.Cond.instanceMethod ({ cls := "ModulaWorks$Chip", name := "pairAt", desc := "(I)I" } : Jvm.MethodName)) ∈ lw_all := lw_g (lw_at lw_m10 175 rfl) rfl
theorem q2625 : (Jvm.Cond.methodLink "ModulaWorks$Chip" (66 : Nat) ({ cls := "ModulaWorks$Chip", name := "setMain", desc := "(I)V" } : Jvm.MethodName)) ∈ lw_all := lw_g (lw_at lw_m10 181 rfl) rfl
theorem q2627 : (Jvm.Cond.instanceMethod ({ cls := "ModulaWorks$Chip", name := "setMain", desc := "(I)V" } : Jvm.MethodName)) ∈ lw_all := lw_g (lw_at lw_m10 183 rfl) rfl
theorem q2609 : (Jvm.Cond.methodLink "ModulaWorks$Chip" (73 : Nat) ({ cls := "ModulaWorks$Chip", name := "has", desc := "(I)Z" } : Jvm.MethodName)) ∈ lw_all := lw_g (lw_at lw_m10 165 rfl) rfl
theorem q2611 : (Jvm.Cond.instanceMethod ({ cls := "ModulaWorks$Chip", name := "has", desc := "(I)Z" } : Jvm.MethodName)) ∈ lw_all := lw_g (lw_at lw_m10 167 rfl) rfl
theorem q2579 : (Jvm.Cond.methodLink "ModulaWorks$Chip" (77 : Nat) ({ cls := "java/lang/Integer", name := "bitCount", desc := "(I)I" } : Jvm.MethodName)) ∈ lw_all := lw_g (lw_at lw_m10 135 rfl) rfl
theorem q2580 : (Jvm.Cond.static ({ cls := "java/lang/Integer", name := "bitCount", desc := "(I)I" } : Jvm.MethodName)) ∈ lw_all := lw_g (lw_at lw_m10 136 rfl) rfl
theorem q2645 : (Jvm.Cond.methodLink "ModulaWorks$Chip" (82 : Nat) ({ cls := "ModulaWorks$Chip", name := "word", desc := "(I)I" } : Jvm.MethodName)) ∈ lw_all := lw_g (lw_at lw_m10 201 rfl) rfl
theorem q2534 : (Jvm.Cond.methodLink "ModulaWorks$Chip" (85 : Nat) ({ cls := "ModulaWorks$Chip", name := "hasMain", desc := "(I)Z" } : Jvm.MethodName)) ∈ lw_all := lw_g (lw_at lw_m10 90 rfl) rfl
theorem q2535 : (Jvm.Cond.static ({ cls := "ModulaWorks$Chip", name := "hasMain", desc := "(I)Z" } : Jvm.MethodName)) ∈ lw_all := lw_g (lw_at lw_m10 91 rfl) rfl
theorem q2585 : (Jvm.Cond.methodLink "ModulaWorks$Chip" (92 : Nat) ({ cls := "ModulaWorks$Chip", name := "indexed", desc := "(I)Z" } : Jvm.MethodName)) ∈ lw_all := lw_g (lw_at lw_m10 141 rfl) rfl
theorem q2587 : (Jvm.Cond.instanceMethod ({ cls := "ModulaWorks$Chip", name := "indexed", desc := "(I)Z" } : Jvm.MethodName)) ∈ lw_all := lw_g (lw_at lw_m10 143 rfl) rfl
theorem q2589 : (Jvm.Cond.methodLink "ModulaWorks$Chip" (95 : Nat) ({ cls := "ModulaWorks$Chip", name := "plain", desc := "(I)Z" } : Jvm.MethodName)) ∈ lw_all := lw_g (lw_at lw_m10 145 rfl) rfl
theorem q2591 : (Jvm.Cond.instanceMethod ({ cls := "ModulaWorks$Chip", name := "plain", desc := "(I)Z" } : Jvm.MethodName)) ∈ lw_all := lw_g (lw_at lw_m10 147 rfl) rfl
theorem q2549 : (Jvm.Cond.methodLink "ModulaWorks$Chip" (102 : Nat) ({ cls := "ModulaWorks$Chip", name := "nextSigned", desc := "()I" } : Jvm.MethodName)) ∈ lw_all := lw_g (lw_at lw_m10 105 rfl) rfl
theorem q2551 : (Jvm.Cond.instanceMethod ({ cls := "ModulaWorks$Chip", name := "nextSigned", desc := "()I" } : Jvm.MethodName)) ∈ lw_all := lw_g (lw_at lw_m10 107 rfl) rfl
theorem q2553 : (Jvm.Cond.methodLink "ModulaWorks$Chip" (105 : Nat) ({ cls := "ModulaWorks$Chip", name := "bits", desc := "(I)Z" } : Jvm.MethodName)) ∈ lw_all := lw_g (lw_at lw_m10 109 rfl) rfl
theorem q2555 : (Jvm.Cond.instanceMethod ({ cls := "ModulaWorks$Chip", name := "bits", desc := "(I)Z" } : Jvm.MethodName)) ∈ lw_all := lw_g (lw_at lw_m10 111 rfl) rfl
theorem q2593 : (Jvm.Cond.methodLink "ModulaWorks$Chip" (108 : Nat) ({ cls := "ModulaWorks$Chip", name := "first", desc := "(II)Z" } : Jvm.MethodName)) ∈ lw_all := lw_g (lw_at lw_m10 149 rfl) rfl
theorem q2595 : (Jvm.Cond.instanceMethod ({ cls := "ModulaWorks$Chip", name := "first", desc := "(II)Z" } : Jvm.MethodName)) ∈ lw_all := lw_g (lw_at lw_m10 151 rfl) rfl
theorem q2557 : (Jvm.Cond.methodLink "ModulaWorks$Chip" (112 : Nat) ({ cls := "ModulaWorks$Chip", name := "get", desc := "(I)I" } : Jvm.MethodName)) ∈ lw_all := lw_g (lw_at lw_m10 113 rfl) rfl
theorem q2559 : (Jvm.Cond.instanceMethod ({ cls := "ModulaWorks$Chip", name := "get", desc := "(I)I" } : Jvm.MethodName)) ∈ lw_all := lw_g (lw_at lw_m10 115 rfl) rfl
theorem q2565 : (Jvm.Cond.methodLink "ModulaWorks$Chip" (115 : Nat) ({ cls := "ModulaWorks$Chip", name := "set", desc := "(II)V" } : Jvm.MethodName)) ∈ lw_all := lw_g (lw_at lw_m10 121 rfl) rfl
theorem q2567 : (Jvm.Cond.instanceMethod ({ cls := "ModulaWorks$Chip", name := "set", desc := "(II)V" } : Jvm.MethodName)) ∈ lw_all := lw_g (lw_at lw_m10 123 rfl) rfl
theorem q2670 : (Jvm.Cond.methodLink "ModulaWorks$Chip" (118 : Nat) ({ cls := "ModulaWorks$Chip", name := "reckon", desc := "(II)V" } : Jvm.MethodName)) ∈ lw_all := lw_g (lw_at lw_m10 226 rfl) rfl
theorem q2672 : (Jvm.Cond.instanceMethod ({ cls := "ModulaWorks$Chip", name := "reckon", desc := "(II)V" } : Jvm.MethodName)) ∈ lw_all := lw_g (lw_at lw_m10 228 rfl) rfl
theorem q2682 : (Jvm.Cond.methodLink "ModulaWorks$Chip" (121 : Nat) ({ cls := "ModulaWorks$Chip", name := "last", desc := "(II)Z" } : Jvm.MethodName)) ∈ lw_all := lw_g (lw_at lw_m10 238 rfl) rfl
theorem q2684 : (Jvm.Cond.instanceMethod ({ cls := "ModulaWorks$Chip", name := "last", desc := "(II)Z" } : Jvm.MethodName)) ∈ lw_all := lw_g (lw_at lw_m11 0 rfl) rfl
theorem q2597 : (Jvm.Cond.methodLink "ModulaWorks$Chip" (124 : Nat) ({ cls := "ModulaWorks$Chip", name := "near", desc := "(I)V" } : Jvm.MethodName)) ∈ lw_all := lw_g (lw_at lw_m10 153 rfl) rfl
theorem q2599 : (Jvm.Cond.instanceMethod ({ cls := "ModulaWorks$Chip", name := "near", desc := "(I)V" } : Jvm.MethodName)) ∈ lw_all := lw_g (lw_at lw_m10 155 rfl) rfl
theorem q2613 : (Jvm.Cond.methodLink "ModulaWorks$Chip" (127 : Nat) ({ cls := "ModulaWorks$Chip", name := "ss", desc := "(I)I" } : Jvm.MethodName)) ∈ lw_all := lw_g (lw_at lw_m10 169 rfl) rfl
theorem q2615 : (Jvm.Cond.instanceMethod ({ cls := "ModulaWorks$Chip", name := "ss", desc := "(I)I" } : Jvm.MethodName)) ∈ lw_all := lw_g (lw_at lw_m10 171 rfl) rfl
theorem q2621 : (Jvm.Cond.methodLink "ModulaWorks$Chip" (130 : Nat) ({ cls := "ModulaWorks$Chip", name := "addPair", desc := "(I)V" } : Jvm.MethodName)) ∈ lw_all := lw_g (lw_at lw_m10 177 rfl) rfl
theorem q2623 : (Jvm.Cond.instanceMethod ({ cls := "ModulaWorks$Chip", name := "addPair", desc := "(I)V" } : Jvm.MethodName)) ∈ lw_all := lw_g (lw_at lw_m10 179 rfl) rfl
theorem q2633 : (Jvm.Cond.methodLink "ModulaWorks$Chip" (133 : Nat) ({ cls := "ModulaWorks$Chip", name := "nextWord", desc := "()I" } : Jvm.MethodName)) ∈ lw_all := lw_g (lw_at lw_m10 189 rfl) rfl
theorem q2635 : (Jvm.Cond.instanceMethod ({ cls := "ModulaWorks$Chip", name := "nextWord", desc := "()I" } : Jvm.MethodName)) ∈ lw_all := lw_g (lw_at lw_m10 191 rfl) rfl
theorem q2637 : (Jvm.Cond.methodLink "ModulaWorks$Chip" (136 : Nat) ({ cls := "ModulaWorks$Chip", name := "setSs", desc := "(II)V" } : Jvm.MethodName)) ∈ lw_all := lw_g (lw_at lw_m10 193 rfl) rfl
theorem q2639 : (Jvm.Cond.instanceMethod ({ cls := "ModulaWorks$Chip", name := "setSs", desc := "(II)V" } : Jvm.MethodName)) ∈ lw_all := lw_g (lw_at lw_m10 195 rfl) rfl
theorem q2641 : (Jvm.Cond.methodLink "ModulaWorks$Chip" (139 : Nat) ({ cls := "ModulaWorks$Chip", name := "far", desc := "(IZ)V" } : Jvm.MethodName)) ∈ lw_all := lw_g (lw_at lw_m10 197 rfl) rfl
theorem q2643 : (Jvm.Cond.instanceMethod ({ cls := "ModulaWorks$Chip", name := "far", desc := "(IZ)V" } : Jvm.MethodName)) ∈ lw_all := lw_g (lw_at lw_m10 199 rfl) rfl
theorem q2650 : (Jvm.Cond.methodLink "ModulaWorks$Chip" (143 : Nat) ({ cls := "ModulaWorks$Chip", name := "oneMore", desc := "(I)I" } : Jvm.MethodName)) ∈ lw_all := lw_g (lw_at lw_m10 206 rfl) rfl
theorem q2652 : (Jvm.Cond.instanceMethod ({ cls := "ModulaWorks$Chip", name := "oneMore", desc := "(I)I" } : Jvm.MethodName)) ∈ lw_all := lw_g (lw_at lw_m10 208 rfl) rfl
theorem q2654 : (Jvm.Cond.methodLink "ModulaWorks$Chip" (146 : Nat) ({ cls := "ModulaWorks$Chip", name := "oneLess", desc := "(I)I" } : Jvm.MethodName)) ∈ lw_all := lw_g (lw_at lw_m10 210 rfl) rfl
theorem q2656 : (Jvm.Cond.instanceMethod ({ cls := "ModulaWorks$Chip", name := "oneLess", desc := "(I)I" } : Jvm.MethodName)) ∈ lw_all := lw_g (lw_at lw_m10 212 rfl) rfl
theorem q2605 : (Jvm.Cond.methodLink "ModulaWorks$Chip" (155 : Nat) ({ cls := "ModulaWorks$Chip", name := "is", desc := "(I)Z" } : Jvm.MethodName)) ∈ lw_all := lw_g (lw_at lw_m10 161 rfl) rfl
theorem q2607 : (Jvm.Cond.instanceMethod ({ cls := "ModulaWorks$Chip", name := "is", desc := "(I)Z" } : Jvm.MethodName)) ∈ lw_all := lw_g (lw_at lw_m10 163 rfl) rfl
theorem q2649 : (Jvm.Cond.methodLink "ModulaWorks$Chip" (158 : Nat) ({ cls := "ModulaWorks$Chip", name := "pokeWord", desc := "(II)V" } : Jvm.MethodName)) ∈ lw_all := lw_g (lw_at lw_m10 205 rfl) rfl
theorem q2561 : (Jvm.Cond.methodLink "ModulaWorks$Chip" (161 : Nat) ({ cls := "ModulaWorks$Chip", name := "f", desc := "()I" } : Jvm.MethodName)) ∈ lw_all := lw_g (lw_at lw_m10 117 rfl) rfl
theorem q2563 : (Jvm.Cond.instanceMethod ({ cls := "ModulaWorks$Chip", name := "f", desc := "()I" } : Jvm.MethodName)) ∈ lw_all := lw_g (lw_at lw_m10 119 rfl) rfl
theorem q2573 : (Jvm.Cond.methodLink "ModulaWorks$Chip" (164 : Nat) ({ cls := "ModulaWorks$Chip", name := "signs", desc := "(I)I" } : Jvm.MethodName)) ∈ lw_all := lw_g (lw_at lw_m10 129 rfl) rfl
theorem q2574 : (Jvm.Cond.static ({ cls := "ModulaWorks$Chip", name := "signs", desc := "(I)I" } : Jvm.MethodName)) ∈ lw_all := lw_g (lw_at lw_m10 130 rfl) rfl
theorem q2662 : (Jvm.Cond.methodLink "ModulaWorks$Chip" (167 : Nat) ({ cls := "ModulaWorks$Chip", name := "a", desc := "()I" } : Jvm.MethodName)) ∈ lw_all := lw_g (lw_at lw_m10 218 rfl) rfl
theorem q2664 : (Jvm.Cond.instanceMethod ({ cls := "ModulaWorks$Chip", name := "a", desc := "()I" } : Jvm.MethodName)) ∈ lw_all := lw_g (lw_at lw_m10 220 rfl) rfl
theorem q2576 : (Jvm.Cond.methodLink "ModulaWorks$Chip" (173 : Nat) ({ cls := "ModulaWorks$Chip", name := "even", desc := "(I)I" } : Jvm.MethodName)) ∈ lw_all := lw_g (lw_at lw_m10 132 rfl) rfl
theorem q2577 : (Jvm.Cond.static ({ cls := "ModulaWorks$Chip", name := "even", desc := "(I)I" } : Jvm.MethodName)) ∈ lw_all := lw_g (lw_at lw_m10 133 rfl) rfl
theorem q2674 : (Jvm.Cond.methodLink "ModulaWorks$Chip" (176 : Nat) ({ cls := "ModulaWorks$Chip", name := "plus", desc := "(III)I" } : Jvm.MethodName)) ∈ lw_all := lw_g (lw_at lw_m10 230 rfl) rfl
theorem q2676 : (Jvm.Cond.instanceMethod ({ cls := "ModulaWorks$Chip", name := "plus", desc := "(III)I" } : Jvm.MethodName)) ∈ lw_all := lw_g (lw_at lw_m10 232 rfl) rfl
theorem q2678 : (Jvm.Cond.methodLink "ModulaWorks$Chip" (180 : Nat) ({ cls := "ModulaWorks$Chip", name := "minus", desc := "(III)I" } : Jvm.MethodName)) ∈ lw_all := lw_g (lw_at lw_m10 234 rfl) rfl
theorem q2680 : (Jvm.Cond.instanceMethod ({ cls := "ModulaWorks$Chip", name := "minus", desc := "(III)I" } : Jvm.MethodName)) ∈ lw_all := lw_g (lw_at lw_m10 236 rfl) rfl
theorem q2686 : (Jvm.Cond.methodLink "ModulaWorks$Chip" (184 : Nat) ({ cls := "ModulaWorks$Chip", name := "pop", desc := "()I" } : Jvm.MethodName)) ∈ lw_all := lw_g (lw_at lw_m11 2 rfl) rfl
theorem q2687 : (Jvm.Cond.instanceMethod ({ cls := "ModulaWorks$Chip", name := "pop", desc := "()I" } : Jvm.MethodName)) ∈ lw_all := lw_g (lw_at lw_m11 3 rfl) rfl
theorem q2688 : (Jvm.Cond.selects "ModulaWorks$Chip" ({ cls := "ModulaWorks$Chip", name := "pop", desc := "()I" } : Jvm.MethodName) ({ cls := "ModulaWorks$Chip", name := "pop", desc := "()I" } : Jvm.MethodName)) ∈ lw_all := lw_g (lw_at lw_m11 4 rfl) rfl
theorem q2690 : (Jvm.Cond.methodLink "ModulaWorks$Chip" (187 : Nat) ({ cls := "ModulaWorks$Chip", name := "various", desc := "(I)V" } : Jvm.MethodName)) ∈ lw_all := lw_g (lw_at lw_m11 6 rfl) rfl
theorem q2692 : (Jvm.Cond.instanceMethod ({ cls := "ModulaWorks$Chip", name := "various", desc := "(I)V" } : Jvm.MethodName)) ∈ lw_all := lw_g (lw_at lw_m11 8 rfl) rfl
theorem q2694 : (Jvm.Cond.methodLink "ModulaWorks$Chip" (190 : Nat) ({ cls := "ModulaWorks$Chip", name := "pops", desc := "(I)V" } : Jvm.MethodName)) ∈ lw_all := lw_g (lw_at lw_m11 10 rfl) rfl
theorem q2696 : (Jvm.Cond.instanceMethod ({ cls := "ModulaWorks$Chip", name := "pops", desc := "(I)V" } : Jvm.MethodName)) ∈ lw_all := lw_g (lw_at lw_m11 12 rfl) rfl
theorem q2698 : (Jvm.Cond.methodLink "ModulaWorks$Chip" (193 : Nat) ({ cls := "ModulaWorks$Chip", name := "push", desc := "(I)V" } : Jvm.MethodName)) ∈ lw_all := lw_g (lw_at lw_m11 14 rfl) rfl
theorem q2699 : (Jvm.Cond.instanceMethod ({ cls := "ModulaWorks$Chip", name := "push", desc := "(I)V" } : Jvm.MethodName)) ∈ lw_all := lw_g (lw_at lw_m11 15 rfl) rfl
theorem q2700 : (Jvm.Cond.selects "ModulaWorks$Chip" ({ cls := "ModulaWorks$Chip", name := "push", desc := "(I)V" } : Jvm.MethodName) ({ cls := "ModulaWorks$Chip", name := "push", desc := "(I)V" } : Jvm.MethodName)) ∈ lw_all := lw_g (lw_at lw_m11 16 rfl) rfl
theorem q2702 : (Jvm.Cond.methodLink "ModulaWorks$Chip" (196 : Nat) ({ cls := "ModulaWorks$Chip", name := "others", desc := "(I)Z" } : Jvm.MethodName)) ∈ lw_all := lw_g (lw_at lw_m11 18 rfl) rfl
theorem q2704 : (Jvm.Cond.instanceMethod ({ cls := "ModulaWorks$Chip", name := "others", desc := "(I)Z" } : Jvm.MethodName)) ∈ lw_all := lw_g (lw_at lw_m11 20 rfl) rfl
theorem q2747 : (Jvm.Cond.methodLink "ModulaWorks$Chip" (199 : Nat) ({ cls := "ModulaWorks$Chip", name := "prefixed", desc := "(I)Z" } : Jvm.MethodName)) ∈ lw_all := lw_g (lw_at lw_m11 63 rfl) rfl
theorem q2749 : (Jvm.Cond.instanceMethod ({ cls := "ModulaWorks$Chip", name := "prefixed", desc := "(I)Z" } : Jvm.MethodName)) ∈ lw_all := lw_g (lw_at lw_m11 65 rfl) rfl
theorem q2707 : (Jvm.Cond.methodLink "ModulaWorks$Chip" (202 : Nat) ({ cls := "ModulaWorks$Ports", name := "out", desc := "(LModulaWorks$Chip;II)V" } : Jvm.MethodName)) ∈ lw_all := lw_g (lw_at lw_m11 23 rfl) rfl
theorem q2717 : (Jvm.Cond.selects "ModulaWorks$Program" ({ cls := "ModulaWorks$Ports", name := "out", desc := "(LModulaWorks$Chip;II)V" } : Jvm.MethodName) ({ cls := "ModulaWorks$Program", name := "out", desc := "(LModulaWorks$Chip;II)V" } : Jvm.MethodName)) ∈ lw_all := lw_g (lw_at lw_m11 33 rfl) rfl
theorem q2719 : (Jvm.Cond.instanceMethod ({ cls := "ModulaWorks$Program", name := "out", desc := "(LModulaWorks$Chip;II)V" } : Jvm.MethodName)) ∈ lw_all := lw_g (lw_at lw_m11 35 rfl) rfl
theorem q2751 : (Jvm.Cond.methodLink "ModulaWorks$Chip" (212 : Nat) ({ cls := "ModulaWorks$Chip", name := "extended", desc := "(I)Z" } : Jvm.MethodName)) ∈ lw_all := lw_g (lw_at lw_m11 67 rfl) rfl
theorem q2753 : (Jvm.Cond.instanceMethod ({ cls := "ModulaWorks$Chip", name := "extended", desc := "(I)Z" } : Jvm.MethodName)) ∈ lw_all := lw_g (lw_at lw_m11 69 rfl) rfl
theorem q2569 : (Jvm.Cond.methodLink "ModulaWorks$Chip" (215 : Nat) ({ cls := "ModulaWorks$Chip", name := "turned", desc := "(II)I" } : Jvm.MethodName)) ∈ lw_all := lw_g (lw_at lw_m10 125 rfl) rfl
theorem q2571 : (Jvm.Cond.instanceMethod ({ cls := "ModulaWorks$Chip", name := "turned", desc := "(II)I" } : Jvm.MethodName)) ∈ lw_all := lw_g (lw_at lw_m10 127 rfl) rfl
theorem q2755 : (Jvm.Cond.methodLink "ModulaWorks$Chip" (219 : Nat) ({ cls := "ModulaWorks$Chip", name := "block", desc := "(IZ)V" } : Jvm.MethodName)) ∈ lw_all := lw_g (lw_at lw_m11 71 rfl) rfl
theorem q2757 : (Jvm.Cond.instanceMethod ({ cls := "ModulaWorks$Chip", name := "block", desc := "(IZ)V" } : Jvm.MethodName)) ∈ lw_all := lw_g (lw_at lw_m11 73 rfl) rfl
theorem q2759 : (Jvm.Cond.methodLink "ModulaWorks$Chip" (222 : Nat) ({ cls := "ModulaWorks$Chip", name := "wide", desc := "(ZI)V" } : Jvm.MethodName)) ∈ lw_all := lw_g (lw_at lw_m11 75 rfl) rfl
theorem q2761 : (Jvm.Cond.instanceMethod ({ cls := "ModulaWorks$Chip", name := "wide", desc := "(ZI)V" } : Jvm.MethodName)) ∈ lw_all := lw_g (lw_at lw_m11 77 rfl) rfl
theorem q1228 : (Jvm.Cond.methodLink "ModulaWorks$Plugs" (1 : Nat) ({ cls := "java/lang/Object", name := "<init>", desc := "()V" } : Jvm.MethodName)) ∈ lw_all := lw_g (lw_at lw_m4 224 rfl) rfl
theorem q1392 : (Jvm.Cond.methodLink "ModulaWorks$Scope" (1 : Nat) ({ cls := "java/lang/Object", name := "<init>", desc := "()V" } : Jvm.MethodName)) ∈ lw_all := lw_g (lw_at lw_m5 148 rfl) rfl
theorem q1696 : (Jvm.Cond.methodLink "ModulaWorks$Scope" (32 : Nat) ({ cls := "ModulaWorks$Sym", name := "is", desc := "(JJ)Z" } : Jvm.MethodName)) ∈ lw_all := lw_g (lw_at lw_m6 212 rfl) rfl
theorem q1697 : (Jvm.Cond.instanceMethod ({ cls := "ModulaWorks$Sym", name := "is", desc := "(JJ)Z" } : Jvm.MethodName)) ∈ lw_all := lw_g (lw_at lw_m6 213 rfl) rfl
theorem q1698 : (Jvm.Cond.selects "ModulaWorks$Sym" ({ cls := "ModulaWorks$Sym", name := "is", desc := "(JJ)Z" } : Jvm.MethodName) ({ cls := "ModulaWorks$Sym", name := "is", desc := "(JJ)Z" } : Jvm.MethodName)) ∈ lw_all := lw_g (lw_at lw_m6 214 rfl) rfl
theorem q1433 : (Jvm.Cond.methodLink "ModulaWorks$Type" (3 : Nat) ({ cls := "java/lang/Object", name := "<init>", desc := "()V" } : Jvm.MethodName)) ∈ lw_all := lw_g (lw_at lw_m5 189 rfl) rfl
theorem q1513 : (Jvm.Cond.methodLink "ModulaWorks$Sym" (1 : Nat) ({ cls := "java/lang/Object", name := "<init>", desc := "()V" } : Jvm.MethodName)) ∈ lw_all := lw_g (lw_at lw_m6 29 rfl) rfl
theorem q1750 : (Jvm.Cond.methodLink "ModulaWorks$Item" (1 : Nat) ({ cls := "java/lang/Object", name := "<init>", desc := "()V" } : Jvm.MethodName)) ∈ lw_all := lw_g (lw_at lw_m7 26 rfl) rfl
theorem q997 : (Jvm.Cond.methodLink "java/lang/String" (1 : Nat) ({ cls := "java/lang/Object", name := "<init>", desc := "()V" } : Jvm.MethodName)) ∈ lw_all := lw_g (lw_at lw_m3 233 rfl) rfl
theorem q911 : (Jvm.Cond.methodLink "java/lang/String" (335 : Nat) ({ cls := "java/lang/String", name := "coder", desc := "()B" } : Jvm.MethodName)) ∈ lw_all := lw_g (lw_at lw_m3 147 rfl) rfl
theorem q912 : (Jvm.Cond.instanceMethod ({ cls := "java/lang/String", name := "coder", desc := "()B" } : Jvm.MethodName)) ∈ lw_all := lw_g (lw_at lw_m3 148 rfl) rfl
theorem q913 : (Jvm.Cond.selects "java/lang/String" ({ cls := "java/lang/String", name := "coder", desc := "()B" } : Jvm.MethodName) ({ cls := "java/lang/String", name := "coder", desc := "()B" } : Jvm.MethodName)) ∈ lw_all := lw_g (lw_at lw_m3 149 rfl) rfl
theorem q921 : (Jvm.Cond.methodLink "java/lang/String" (492 : Nat) ({ cls := "java/lang/String", name := "isLatin1", desc := "()Z" } : Jvm.MethodName)) ∈ lw_all := lw_g (lw_at lw_m3 157 rfl) rfl
theorem q922 : (Jvm.Cond.instanceMethod ({ cls := "java/lang/String", name := "isLatin1", desc := "()Z" } : Jvm.MethodName)) ∈ lw_all := lw_g (lw_at lw_m3 158 rfl) rfl
theorem q923 : (Jvm.Cond.selects "java/lang/String" ({ cls := "java/lang/String", name := "isLatin1", desc := "()Z" } : Jvm.MethodName) ({ cls := "java/lang/String", name := "isLatin1", desc := "()Z" } : Jvm.MethodName)) ∈ lw_all := lw_g (lw_at lw_m3 159 rfl) rfl
theorem q925 : (Jvm.Cond.methodLink "java/lang/String" (495 : Nat) ({ cls := "java/lang/StringLatin1", name := "charAt", desc := "([BI)C" } : Jvm.MethodName)) ∈ lw_all := lw_g (lw_at lw_m3 161 rfl) rfl
theorem q926 : (Jvm.Cond.static ({ cls := "java/lang/StringLatin1", name := "charAt", desc := "([BI)C" } : Jvm.MethodName)) ∈ lw_all := lw_g (lw_at lw_m3 162 rfl) rfl
theorem q959 : (Jvm.Cond.methodLink "java/lang/String" (505 : Nat) ({ cls := "java/lang/String", name := "length", desc := "()I" } : Jvm.MethodName)) ∈ lw_all := lw_g (lw_at lw_m3 195 rfl) rfl
theorem q960 : (Jvm.Cond.methodLink "java/lang/String" (521 : Nat) ({ cls := "java/lang/String", name := "checkBoundsBeginEnd", desc := "(III)V" } : Jvm.MethodName)) ∈ lw_all := lw_g (lw_at lw_m3 196 rfl) rfl
theorem q961 : (Jvm.Cond.static ({ cls := "java/lang/String", name := "checkBoundsBeginEnd", desc := "(III)V" } : Jvm.MethodName)) ∈ lw_all := lw_g (lw_at lw_m3 197 rfl) rfl
theorem q1057 : (Jvm.Cond.methodLink "java/lang/String" (541 : Nat) ({ cls := "java/lang/StringLatin1", name := "equals", desc := "([B[B)Z" } : Jvm.MethodName)) ∈ lw_all := lw_g (lw_at lw_m4 53 rfl) rfl
theorem q1058 : (Jvm.Cond.static ({ cls := "java/lang/StringLatin1", name := "equals", desc := "([B[B)Z" } : Jvm.MethodName)) ∈ lw_all := lw_g (lw_at lw_m4 54 rfl) rfl
theorem q1047 : (Jvm.Cond.methodLink "java/lang/String" (681 : Nat) ({ cls := "java/lang/String", name := "substring", desc := "(II)Ljava/lang/String;" } : Jvm.MethodName)) ∈ lw_all := lw_g (lw_at lw_m4 43 rfl) rfl
theorem q966 : (Jvm.Cond.methodLink "java/lang/String" (685 : Nat) ({ cls := "java/lang/StringLatin1", name := "newString", desc := "([BII)Ljava/lang/String;" } : Jvm.MethodName)) ∈ lw_all := lw_g (lw_at lw_m3 202 rfl) rfl
theorem q967 : (Jvm.Cond.static ({ cls := "java/lang/StringLatin1", name := "newString", desc := "([BII)Ljava/lang/String;" } : Jvm.MethodName)) ∈ lw_all := lw_g (lw_at lw_m3 203 rfl) rfl
theorem q933 : (Jvm.Cond.methodLink "java/lang/String" (1059 : Nat) ({ cls := "jdk/internal/util/Preconditions", name := "checkIndex", desc := "(IILjava/util/function/BiFunction;)I" } : Jvm.MethodName)) ∈ lw_all := lw_g (lw_at lw_m3 169 rfl) rfl
theorem q934 : (Jvm.Cond.static ({ cls := "jdk/internal/util/Preconditions", name := "checkIndex", desc := "(IILjava/util/function/BiFunction;)I" } : Jvm.MethodName)) ∈ lw_all := lw_g (lw_at lw_m3 170 rfl) rfl
theorem q963 : (Jvm.Cond.methodLink "java/lang/String" (1062 : Nat) ({ cls := "jdk/internal/util/Preconditions", name := "checkFromToIndex", desc := "(IIILjava/util/function/BiFunction;)I" } : Jvm.MethodName)) ∈ lw_all := lw_g (lw_at lw_m3 199 rfl) rfl
theorem q964 : (Jvm.Cond.static ({ cls := "jdk/internal/util/Preconditions", name := "checkFromToIndex", desc := "(IIILjava/util/function/BiFunction;)I" } : Jvm.MethodName)) ∈ lw_all := lw_g (lw_at lw_m3 200 rfl) rfl
theorem q928 : (Jvm.Cond.methodLink "java/lang/StringLatin1" (9 : Nat) ({ cls := "java/lang/String", name := "checkIndex", desc := "(II)V" } : Jvm.MethodName)) ∈ lw_all := lw_g (lw_at lw_m3 164 rfl) rfl
theorem q929 : (Jvm.Cond.static ({ cls := "java/lang/String", name := "checkIndex", desc := "(II)V" } : Jvm.MethodName)) ∈ lw_all := lw_g (lw_at lw_m3 165 rfl) rfl
theorem q994 : (Jvm.Cond.methodLink "java/lang/StringLatin1" (112 : Nat) ({ cls := "java/lang/String", name := "<init>", desc := "([BB)V" } : Jvm.MethodName)) ∈ lw_all := lw_g (lw_at lw_m3 230 rfl) rfl
theorem q995 : (Jvm.Cond.instanceMethod ({ cls := "java/lang/String", name := "<init>", desc := "([BB)V" } : Jvm.MethodName)) ∈ lw_all := lw_g (lw_at lw_m3 231 rfl) rfl
theorem q972 : (Jvm.Cond.methodLink "java/lang/StringLatin1" (232 : Nat) ({ cls := "java/util/Arrays", name := "copyOfRange", desc := "([BII)[B" } : Jvm.MethodName)) ∈ lw_all := lw_g (lw_at lw_m3 208 rfl) rfl
theorem q973 : (Jvm.Cond.static ({ cls := "java/util/Arrays", name := "copyOfRange", desc := "([BII)[B" } : Jvm.MethodName)) ∈ lw_all := lw_g (lw_at lw_m3 209 rfl) rfl
theorem q984 : (Jvm.Cond.methodLink "java/util/Arrays" (150 : Nat) ({ cls := "java/lang/System", name := "arraycopy", desc := "(Ljava/lang/Object;ILjava/lang/Object;II)V" } : Jvm.MethodName)) ∈ lw_all := lw_g (lw_at lw_m3 220 rfl) rfl
theorem q981 : (Jvm.Cond.methodLink "java/util/Arrays" (304 : Nat) ({ cls := "java/lang/Math", name := "min", desc := "(II)I" } : Jvm.MethodName)) ∈ lw_all := lw_g (lw_at lw_m3 217 rfl) rfl
theorem q975 : (Jvm.Cond.methodLink "java/util/Arrays" (339 : Nat) ({ cls := "java/util/Arrays", name := "copyOfRangeByte", desc := "([BII)[B" } : Jvm.MethodName)) ∈ lw_all := lw_g (lw_at lw_m3 211 rfl) rfl
theorem q976 : (Jvm.Cond.static ({ cls := "java/util/Arrays", name := "copyOfRangeByte", desc := "([BII)[B" } : Jvm.MethodName)) ∈ lw_all := lw_g (lw_at lw_m3 212 rfl) rfl
theorem q978 : (Jvm.Cond.methodLink "java/util/Arrays" (343 : Nat) ({ cls := "java/util/Arrays", name := "checkLength", desc := "(II)V" } : Jvm.MethodName)) ∈ lw_all := lw_g (lw_at lw_m3 214 rfl) rfl
theorem q979 : (Jvm.Cond.static ({ cls := "java/util/Arrays", name := "checkLength", desc := "(II)V" } : Jvm.MethodName)) ∈ lw_all := lw_g (lw_at lw_m3 215 rfl) rfl
theorem q541 : (Jvm.Cond.methodLink "java/lang/Throwable" (1 : Nat) ({ cls := "java/lang/Object", name := "<init>", desc := "()V" } : Jvm.MethodName)) ∈ lw_all := lw_g (lw_at lw_m2 17 rfl) rfl
theorem q564 : (Jvm.Cond.methodLink "java/lang/Exception" (16 : Nat) ({ cls := "java/lang/Throwable", name := "<init>", desc := "(Ljava/lang/String;Ljava/lang/Throwable;ZZ)V" } : Jvm.MethodName)) ∈ lw_all := lw_g (lw_at lw_m2 40 rfl) rfl
theorem q565 : (Jvm.Cond.instanceMethod ({ cls := "java/lang/Throwable", name := "<init>", desc := "(Ljava/lang/String;Ljava/lang/Throwable;ZZ)V" } : Jvm.MethodName)) ∈ lw_all := lw_g (lw_at lw_m2 41 rfl) rfl
theorem q561 : (Jvm.Cond.methodLink "java/lang/RuntimeException" (16 : Nat) ({ cls := "java/lang/Exception", name := "<init>", desc := "(Ljava/lang/String;Ljava/lang/Throwable;ZZ)V" } : Jvm.MethodName)) ∈ lw_all := lw_g (lw_at lw_m2 37 rfl) rfl
theorem q562 : (Jvm.Cond.instanceMethod ({ cls := "java/lang/Exception", name := "<init>", desc := "(Ljava/lang/String;Ljava/lang/Throwable;ZZ)V" } : Jvm.MethodName)) ∈ lw_all := lw_g (lw_at lw_m2 38 rfl) rfl
theorem q983 : (Jvm.Cond.code ({ cls := "java/lang/Math", name := "min", desc := "(II)I" } : Jvm.MethodName) prog_24_method_69_code (2 : Nat) (Option.some Jvm.ClassFile.FieldType.int)) ∈ lw_all := lw_g (lw_at lw_m3 219 rfl) rfl
theorem q1808 : (Jvm.Cond.code ({ cls := "java/lang/Math", name := "max", desc := "(II)I" } : Jvm.MethodName) prog_24_method_65_code (2 : Nat) (Option.some Jvm.ClassFile.FieldType.int)) ∈ lw_all := lw_g (lw_at lw_m7 84 rfl) rfl
theorem q2011 : (Jvm.Cond.code ({ cls := "java/lang/Math", name := "abs", desc := "(I)I" } : Jvm.MethodName) prog_24_method_59_code (1 : Nat) (Option.some Jvm.ClassFile.FieldType.int)) ∈ lw_all := lw_g (lw_at lw_m8 47 rfl) rfl
theorem q2010 : (Jvm.Cond.static ({ cls := "java/lang/Math", name := "abs", desc := "(I)I" } : Jvm.MethodName)) ∈ lw_all := lw_g (lw_at lw_m8 46 rfl) rfl
theorem q1807 : (Jvm.Cond.static ({ cls := "java/lang/Math", name := "max", desc := "(II)I" } : Jvm.MethodName)) ∈ lw_all := lw_g (lw_at lw_m7 83 rfl) rfl
theorem q982 : (Jvm.Cond.static ({ cls := "java/lang/Math", name := "min", desc := "(II)I" } : Jvm.MethodName)) ∈ lw_all := lw_g (lw_at lw_m3 218 rfl) rfl
theorem q305 : (Jvm.Cond.initialized "java/lang/System") ∈ lw_all := lw_g (lw_at lw_m1 21 rfl) rfl
theorem q320 : (Jvm.Cond.instanceMethod ({ cls := "java/lang/Object", name := "<init>", desc := "()V" } : Jvm.MethodName)) ∈ lw_all := lw_g (lw_at lw_m1 36 rfl) rfl
theorem q986 : (Jvm.Cond.native ({ cls := "java/lang/System", name := "arraycopy", desc := "(Ljava/lang/Object;ILjava/lang/Object;II)V" } : Jvm.MethodName)) ∈ lw_all := lw_g (lw_at lw_m3 222 rfl) rfl
theorem q985 : (Jvm.Cond.static ({ cls := "java/lang/System", name := "arraycopy", desc := "(Ljava/lang/Object;ILjava/lang/Object;II)V" } : Jvm.MethodName)) ∈ lw_all := lw_g (lw_at lw_m3 221 rfl) rfl
theorem q434 : (Jvm.Cond.arrayClass Jvm.ClassFile.FieldType.int) ∈ lw_all := lw_g (lw_at lw_m1 150 rfl) rfl
theorem q375 : (Jvm.Cond.arrayClass Jvm.ClassFile.FieldType.byte) ∈ lw_all := lw_g (lw_at lw_m1 91 rfl) rfl
theorem q435 : (Jvm.Cond.arrayClass Jvm.ClassFile.FieldType.short) ∈ lw_all := lw_g (lw_at lw_m1 151 rfl) rfl
theorem q433 : (Jvm.Cond.arrayClass Jvm.ClassFile.FieldType.long) ∈ lw_all := lw_g (lw_at lw_m1 149 rfl) rfl
theorem q321 : (Jvm.Cond.code ({ cls := "java/lang/Object", name := "<init>", desc := "()V" } : Jvm.MethodName) object_method_1_code (1 : Nat) (Option.none : Option Jvm.ClassFile.FieldType)) ∈ lw_all := lw_g (lw_at lw_m1 37 rfl) rfl
theorem q3158 : (Jvm.Cond.initialized "java/lang/Object") ∈ lw_all := lw_g (lw_at lw_m12 234 rfl) rfl
theorem q2708 : (Jvm.Cond.interfaceMethod "ModulaWorks$Ports" "ModulaWorks$Ports" "out" "(LModulaWorks$Chip;II)V") ∈ lw_tbl := lw_at lw_m11 24 rfl
theorem q2709 : (Jvm.Cond.declares ({ cls := "ModulaWorks$Ports", name := "out", desc := "(LModulaWorks$Chip;II)V" } : Jvm.MethodName)) ∈ lw_tbl := lw_at lw_m11 25 rfl
theorem q2735 : (Jvm.Cond.interfaceMethod "ModulaWorks$Ports" "ModulaWorks$Ports" "in" "(LModulaWorks$Chip;I)I") ∈ lw_tbl := lw_at lw_m11 51 rfl
theorem q2736 : (Jvm.Cond.declares ({ cls := "ModulaWorks$Ports", name := "in", desc := "(LModulaWorks$Chip;I)I" } : Jvm.MethodName)) ∈ lw_tbl := lw_at lw_m11 52 rfl
theorem q916 : (Jvm.Cond.laysStatic "java/lang/String" "COMPACT_STRINGS" "Z") ∈ lw_tbl := lw_at lw_m3 152 rfl
theorem q302 : (Jvm.Cond.initialized "java/lang/StringUTF16") ∈ lw_all := lw_g (lw_at lw_m1 18 rfl) rfl
theorem q950 : (Jvm.Cond.laysStatic "java/lang/StringUTF16" "$assertionsDisabled" "Z") ∈ lw_tbl := lw_at lw_m3 186 rfl
theorem q952 : (Jvm.Cond.laysStatic "java/lang/StringUTF16" "HI_BYTE_SHIFT" "I") ∈ lw_tbl := lw_at lw_m3 188 rfl
theorem q954 : (Jvm.Cond.laysStatic "java/lang/StringUTF16" "LO_BYTE_SHIFT" "I") ∈ lw_tbl := lw_at lw_m3 190 rfl
theorem q1335 : (Jvm.Cond.laysStatic "ModulaWorks" "IN_OUT" "J") ∈ lw_tbl := lw_at lw_m5 91 rfl
theorem q1337 : (Jvm.Cond.laysStatic "ModulaWorks" "SYSTEM" "J") ∈ lw_tbl := lw_at lw_m5 93 rfl
theorem q2710 : (Jvm.Cond.castable "ModulaWorks$Plugs" "ModulaWorks$Ports") ∈ lw_tbl := lw_at lw_m11 26 rfl
theorem q543 : (Jvm.Cond.laysStatic "java/lang/Throwable" "UNASSIGNED_STACK" "[Ljava/lang/StackTraceElement;") ∈ lw_tbl := lw_at lw_m2 19 rfl
theorem q545 : (Jvm.Cond.laysStatic "java/lang/Throwable" "SUPPRESSED_SENTINEL" "Ljava/util/List;") ∈ lw_tbl := lw_at lw_m2 21 rfl
theorem q932 : (Jvm.Cond.laysStatic "jdk/internal/util/Preconditions" "SIOOBE_FORMATTER" "Ljava/util/function/BiFunction;") ∈ lw_tbl := lw_at lw_m3 168 rfl
theorem q304 : (Jvm.Cond.initialized "java/lang/Math") ∈ lw_all := lw_g (lw_at lw_m1 20 rfl) rfl
theorem q2716 : (Jvm.Cond.castable "ModulaWorks$Program" "ModulaWorks$Ports") ∈ lw_tbl := lw_at lw_m11 32 rfl
theorem q2718 : (Jvm.Cond.unhidden "ModulaWorks$Program" "out" "(LModulaWorks$Chip;II)V") ∈ lw_tbl := lw_at lw_m11 34 rfl
theorem q2720 : (Jvm.Cond.publicMethod ({ cls := "ModulaWorks$Program", name := "out", desc := "(LModulaWorks$Chip;II)V" } : Jvm.MethodName)) ∈ lw_tbl := lw_at lw_m11 36 rfl
theorem q2743 : (Jvm.Cond.unhidden "ModulaWorks$Program" "in" "(LModulaWorks$Chip;I)I") ∈ lw_tbl := lw_at lw_m11 59 rfl
theorem q2745 : (Jvm.Cond.publicMethod ({ cls := "ModulaWorks$Program", name := "in", desc := "(LModulaWorks$Chip;I)I" } : Jvm.MethodName)) ∈ lw_tbl := lw_at lw_m11 61 rfl
theorem ct_cls : ∀ (c : Nat) (r : vw_C), am_cls[c]? = some r → (∀ w ∈ u_ws r.1 r.2.1 r.2.2, w ∈ lw_all) ∧ (∀ k, k < r.2.2 → parseFieldDescriptor (r.2.1 k).2.2.1 = some (am_ty c k)) ∧ (∀ a, a < r.2.2 → ∀ b, b < r.2.2 → a ≠ b → (r.2.1 a).2.1 ≠ (r.2.1 b).2.1) := by
  intro c r h
  match c, h with
  | 0, h => obtain rfl := Option.some.inj h; exact ⟨fun w h => by simp [u_ws] at h, fun k hk => absurd hk (Nat.not_lt_zero _), fun a ha => absurd ha (Nat.not_lt_zero _)⟩
  | 1, h => obtain rfl := Option.some.inj h; exact ⟨in_X1, tyX1_ok, nmX1⟩
  | 2, h => obtain rfl := Option.some.inj h; exact ⟨in_X2, tyX2_ok, nmX2⟩
  | 3, h => obtain rfl := Option.some.inj h; exact ⟨in_X3, tyX3_ok, nmX3⟩
  | 4, h => obtain rfl := Option.some.inj h; exact ⟨in_X4, tyX4_ok, nmX4⟩
  | 5, h => obtain rfl := Option.some.inj h; exact ⟨in_X5, tyX5_ok, nmX5⟩
  | 6, h => obtain rfl := Option.some.inj h; exact ⟨in_X6, tyX6_ok, nmX6⟩
  | 7, h => obtain rfl := Option.some.inj h; exact ⟨in_X7, tyX7_ok, nmX7⟩
  | 8, h => obtain rfl := Option.some.inj h; exact ⟨in_X8, tyX8_ok, nmX8⟩
  | 9, h => obtain rfl := Option.some.inj h; exact ⟨in_X9, tyX9_ok, nmX9⟩
  | 10, h => obtain rfl := Option.some.inj h; exact ⟨in_X10, tyX10_ok, nmX10⟩
  | 11, h => obtain rfl := Option.some.inj h; exact ⟨in_X11, tyX11_ok, nmX11⟩
  | 12, h => obtain rfl := Option.some.inj h; exact ⟨in_X12, tyX12_ok, nmX12⟩
  | 13, h => obtain rfl := Option.some.inj h; exact ⟨in_X13, tyX13_ok, nmX13⟩
  | 14, h => obtain rfl := Option.some.inj h; exact ⟨in_X14, tyX14_ok, nmX14⟩
  | 15, h => obtain rfl := Option.some.inj h; exact ⟨in_X15, tyX15_ok, nmX15⟩
  | 16, h => obtain rfl := Option.some.inj h; exact ⟨in_X16, tyX16_ok, nmX16⟩
  | 17, h => obtain rfl := Option.some.inj h; exact ⟨in_X17, tyX17_ok, nmX17⟩
  | 18, h => obtain rfl := Option.some.inj h; exact ⟨in_X18, tyX18_ok, nmX18⟩
  | 19, h => obtain rfl := Option.some.inj h; exact ⟨in_J3s, fun k hk => tyJ3_ok k (Nat.lt_of_lt_of_le hk (by decide)), fun a ha b hb => nmJ3 a (Nat.lt_of_lt_of_le ha (by decide)) b (Nat.lt_of_lt_of_le hb (by decide))⟩
  | c + 20, h => simp [am_cls] at h
theorem ct_dcl : ∀ (c : Nat) (r : vw_C), am_cls[c]? = some r → ∀ k, k < r.2.2 → (r.2.1 k).1 = am_nm (am_dcl c k) := by
  intro c r h
  match c, h with
  | 0, h => obtain rfl := Option.some.inj h; decide +kernel
  | 1, h => obtain rfl := Option.some.inj h; decide +kernel
  | 2, h => obtain rfl := Option.some.inj h; decide +kernel
  | 3, h => obtain rfl := Option.some.inj h; decide +kernel
  | 4, h => obtain rfl := Option.some.inj h; decide +kernel
  | 5, h => obtain rfl := Option.some.inj h; decide +kernel
  | 6, h => obtain rfl := Option.some.inj h; decide +kernel
  | 7, h => obtain rfl := Option.some.inj h; decide +kernel
  | 8, h => obtain rfl := Option.some.inj h; decide +kernel
  | 9, h => obtain rfl := Option.some.inj h; decide +kernel
  | 10, h => obtain rfl := Option.some.inj h; decide +kernel
  | 11, h => obtain rfl := Option.some.inj h; decide +kernel
  | 12, h => obtain rfl := Option.some.inj h; decide +kernel
  | 13, h => obtain rfl := Option.some.inj h; decide +kernel
  | 14, h => obtain rfl := Option.some.inj h; decide +kernel
  | 15, h => obtain rfl := Option.some.inj h; decide +kernel
  | 16, h => obtain rfl := Option.some.inj h; decide +kernel
  | 17, h => obtain rfl := Option.some.inj h; decide +kernel
  | 18, h => obtain rfl := Option.some.inj h; decide +kernel
  | 19, h => obtain rfl := Option.some.inj h; decide +kernel
  | c + 20, h => simp [am_cls] at h
theorem ct_lk {α : Type} {L : List (Nat × α)} {i : Nat} {v : α} (h : L.lookup i = some v) : (i, v) ∈ L := by
  induction L with
  | nil => cases h
  | cons a t ih =>
    obtain ⟨k, y⟩ := a
    simp only [List.lookup] at h
    split at h
    · rename_i e
      cases h
      rw [eq_of_beq e]
      exact List.mem_cons_self
    · exact List.mem_cons_of_mem _ (ih h)
def ct_Fl (own x c k : Nat) : Prop := ∃ r : vw_C, am_cls[c]? = some r ∧ k < r.2.2 ∧ (Cond.fieldLink (am_nm own) x (r.2.1 k).1 (r.2.1 k).2.1 (r.2.1 k).2.2.1 ∈ lw_all ∨ ∃ host, Cond.fieldLinkNest (am_nm own) x (r.2.1 k).1 (r.2.1 k).2.1 (r.2.1 k).2.2.1 host ∈ lw_tbl)
theorem ct_fl0_1_0 : ∀ e ∈ am_flT_1_0, ct_Fl 1 e.1 e.2.1 e.2.2 := List.forall_mem_cons.mpr ⟨⟨_, rfl, by decide, Or.inl q1241⟩, List.forall_mem_cons.mpr ⟨⟨_, rfl, by decide, Or.inl q1243⟩, List.forall_mem_cons.mpr ⟨⟨_, rfl, by decide, Or.inl q1244⟩, List.forall_mem_cons.mpr ⟨⟨_, rfl, by decide, Or.inl q1245⟩, List.forall_mem_cons.mpr ⟨⟨_, rfl, by decide, Or.inl q1246⟩, List.forall_mem_cons.mpr ⟨⟨_, rfl, by decide, Or.inl q1247⟩, List.forall_mem_cons.mpr ⟨⟨_, rfl, by decide, Or.inl q1248⟩, List.forall_mem_cons.mpr ⟨⟨_, rfl, by decide, Or.inl q1249⟩, List.forall_mem_cons.mpr ⟨⟨_, rfl, by decide, Or.inl q1252⟩, List.forall_mem_cons.mpr ⟨⟨_, rfl, by decide, Or.inl q1254⟩, List.forall_mem_cons.mpr ⟨⟨_, rfl, by decide, Or.inl q1255⟩, List.forall_mem_cons.mpr ⟨⟨_, rfl, by decide, Or.inl q1256⟩, List.forall_mem_cons.mpr ⟨⟨_, rfl, by decide, Or.inl q1262⟩, List.forall_mem_cons.mpr ⟨⟨_, rfl, by decide, Or.inl q1263⟩, List.forall_mem_cons.mpr ⟨⟨_, rfl, by decide, Or.inl q1242⟩, List.forall_mem_cons.mpr ⟨⟨_, rfl, by decide, Or.inl q1251⟩, List.forall_mem_cons.mpr ⟨⟨_, rfl, by decide, Or.inl q1250⟩, List.forall_mem_cons.mpr ⟨⟨_, rfl, by decide, Or.inr ⟨_, q438⟩⟩, List.forall_mem_cons.mpr ⟨⟨_, rfl, by decide, Or.inr ⟨_, q404⟩⟩, List.forall_mem_cons.mpr ⟨⟨_, rfl, by decide, Or.inr ⟨_, q583⟩⟩, List.forall_mem_cons.mpr ⟨⟨_, rfl, by decide, Or.inr ⟨_, q407⟩⟩, List.forall_mem_cons.mpr ⟨⟨_, rfl, by decide, Or.inl q1253⟩, List.forall_mem_cons.mpr ⟨⟨_, rfl, by decide, Or.inr ⟨_, q399⟩⟩, List.forall_mem_cons.mpr ⟨⟨_, rfl, by decide, Or.inr ⟨_, q685⟩⟩, List.forall_mem_cons.mpr ⟨⟨_, rfl, by decide, Or.inr ⟨_, q684⟩⟩, List.forall_mem_cons.mpr ⟨⟨_, rfl, by decide, Or.inr ⟨_, q444⟩⟩, List.forall_mem_cons.mpr ⟨⟨_, rfl, by decide, Or.inr ⟨_, q450⟩⟩, List.forall_mem_cons.mpr ⟨⟨_, rfl, by decide, Or.inr ⟨_, q454⟩⟩, List.forall_mem_cons.mpr ⟨⟨_, rfl, by decide, Or.inr ⟨_, q503⟩⟩, List.forall_mem_cons.mpr ⟨⟨_, rfl, by decide, Or.inr ⟨_, q441⟩⟩, List.forall_mem_cons.mpr ⟨⟨_, rfl, by decide, Or.inr ⟨_, q458⟩⟩, List.forall_mem_cons.mpr ⟨⟨_, rfl, by decide, Or.inr ⟨_, q467⟩⟩, List.forall_mem_cons.mpr ⟨⟨_, rfl, by decide, Or.inr ⟨_, q461⟩⟩, List.forall_mem_cons.mpr ⟨⟨_, rfl, by decide, Or.inr ⟨_, q464⟩⟩, List.forall_mem_cons.mpr ⟨⟨_, rfl, by decide, Or.inr ⟨_, q447⟩⟩, List.forall_mem_cons.mpr ⟨⟨_, rfl, by decide, Or.inr ⟨_, q396⟩⟩, List.forall_mem_cons.mpr ⟨⟨_, rfl, by decide, Or.inl q1258⟩, List.forall_mem_cons.mpr ⟨⟨_, rfl, by decide, Or.inl q1257⟩, List.forall_mem_cons.mpr ⟨⟨_, rfl, by decide, Or.inl q1261⟩, List.forall_mem_cons.mpr ⟨⟨_, rfl, by decide, Or.inl q1260⟩, fun _ h => absurd h List.not_mem_nil⟩⟩⟩⟩⟩⟩⟩⟩⟩⟩⟩⟩⟩⟩⟩⟩⟩⟩⟩⟩⟩⟩⟩⟩⟩⟩⟩⟩⟩⟩⟩⟩⟩⟩⟩⟩⟩⟩⟩⟩
theorem ct_fl0_1_1 : ∀ e ∈ am_flT_1_1, ct_Fl 1 e.1 e.2.1 e.2.2 := List.forall_mem_cons.mpr ⟨⟨_, rfl, by decide, Or.inl q1259⟩, List.forall_mem_cons.mpr ⟨⟨_, rfl, by decide, Or.inr ⟨_, q703⟩⟩, List.forall_mem_cons.mpr ⟨⟨_, rfl, by decide, Or.inr ⟨_, q1071⟩⟩, List.forall_mem_cons.mpr ⟨⟨_, rfl, by decide, Or.inr ⟨_, q1151⟩⟩, List.forall_mem_cons.mpr ⟨⟨_, rfl, by decide, Or.inr ⟨_, q680⟩⟩, List.forall_mem_cons.mpr ⟨⟨_, rfl, by decide, Or.inr ⟨_, q641⟩⟩, List.forall_mem_cons.mpr ⟨⟨_, rfl, by decide, Or.inr ⟨_, q1153⟩⟩, List.forall_mem_cons.mpr ⟨⟨_, rfl, by decide, Or.inr ⟨_, q1155⟩⟩, List.forall_mem_cons.mpr ⟨⟨_, rfl, by decide, Or.inr ⟨_, q1157⟩⟩, List.forall_mem_cons.mpr ⟨⟨_, rfl, by decide, Or.inr ⟨_, q1159⟩⟩, List.forall_mem_cons.mpr ⟨⟨_, rfl, by decide, Or.inr ⟨_, q1160⟩⟩, List.forall_mem_cons.mpr ⟨⟨_, rfl, by decide, Or.inr ⟨_, q1164⟩⟩, List.forall_mem_cons.mpr ⟨⟨_, rfl, by decide, Or.inr ⟨_, q1175⟩⟩, List.forall_mem_cons.mpr ⟨⟨_, rfl, by decide, Or.inr ⟨_, q1172⟩⟩, fun _ h => absurd h List.not_mem_nil⟩⟩⟩⟩⟩⟩⟩⟩⟩⟩⟩⟩⟩⟩
theorem ct_fl0_1 : ∀ e ∈ am_flT_1, ct_Fl 1 e.1 e.2.1 e.2.2 := fun e h => (List.mem_append.mp h).elim (ct_fl0_1_0 e) (fun h => ct_fl0_1_1 e h)
theorem ct_fl0_2_0 : ∀ e ∈ am_flT_2_0, ct_Fl 2 e.1 e.2.1 e.2.2 := List.forall_mem_cons.mpr ⟨⟨_, rfl, by decide, Or.inl q371⟩, fun _ h => absurd h List.not_mem_nil⟩
theorem ct_fl0_2 : ∀ e ∈ am_flT_2, ct_Fl 2 e.1 e.2.1 e.2.2 := fun e h => ct_fl0_2_0 e h
theorem ct_fl0_3_0 : ∀ e ∈ am_flT_3_0, ct_Fl 3 e.1 e.2.1 e.2.2 := List.forall_mem_cons.mpr ⟨⟨_, rfl, by decide, Or.inl q502⟩, List.forall_mem_cons.mpr ⟨⟨_, rfl, by decide, Or.inr ⟨_, q457⟩⟩, List.forall_mem_cons.mpr ⟨⟨_, rfl, by decide, Or.inr ⟨_, q460⟩⟩, List.forall_mem_cons.mpr ⟨⟨_, rfl, by decide, Or.inr ⟨_, q463⟩⟩, List.forall_mem_cons.mpr ⟨⟨_, rfl, by decide, Or.inr ⟨_, q446⟩⟩, List.forall_mem_cons.mpr ⟨⟨_, rfl, by decide, Or.inr ⟨_, q466⟩⟩, List.forall_mem_cons.mpr ⟨⟨_, rfl, by decide, Or.inr ⟨_, q443⟩⟩, List.forall_mem_cons.mpr ⟨⟨_, rfl, by decide, Or.inr ⟨_, q449⟩⟩, List.forall_mem_cons.mpr ⟨⟨_, rfl, by decide, Or.inr ⟨_, q453⟩⟩, List.forall_mem_cons.mpr ⟨⟨_, rfl, by decide, Or.inl q504⟩, fun _ h => absurd h List.not_mem_nil⟩⟩⟩⟩⟩⟩⟩⟩⟩⟩
theorem ct_fl0_3 : ∀ e ∈ am_flT_3, ct_Fl 3 e.1 e.2.1 e.2.2 := fun e h => ct_fl0_3_0 e h
theorem ct_fl0_4_0 : ∀ e ∈ am_flT_4_0, ct_Fl 4 e.1 e.2.1 e.2.2 := List.forall_mem_cons.mpr ⟨⟨_, rfl, by decide, Or.inl q459⟩, List.forall_mem_cons.mpr ⟨⟨_, rfl, by decide, Or.inl q462⟩, List.forall_mem_cons.mpr ⟨⟨_, rfl, by decide, Or.inl q465⟩, List.forall_mem_cons.mpr ⟨⟨_, rfl, by decide, Or.inl q436⟩, List.forall_mem_cons.mpr ⟨⟨_, rfl, by decide, Or.inl q440⟩, List.forall_mem_cons.mpr ⟨⟨_, rfl, by decide, Or.inl q442⟩, List.forall_mem_cons.mpr ⟨⟨_, rfl, by decide, Or.inl q448⟩, List.forall_mem_cons.mpr ⟨⟨_, rfl, by decide, Or.inl q452⟩, List.forall_mem_cons.mpr ⟨⟨_, rfl, by decide, Or.inl q456⟩, List.forall_mem_cons.mpr ⟨⟨_, rfl, by decide, Or.inr ⟨_, q403⟩⟩, List.forall_mem_cons.mpr ⟨⟨_, rfl, by decide, Or.inr ⟨_, q410⟩⟩, List.forall_mem_cons.mpr ⟨⟨_, rfl, by decide, Or.inr ⟨_, q413⟩⟩, fun _ h => absurd h List.not_mem_nil⟩⟩⟩⟩⟩⟩⟩⟩⟩⟩⟩⟩
theorem ct_fl0_4 : ∀ e ∈ am_flT_4, ct_Fl 4 e.1 e.2.1 e.2.2 := fun e h => ct_fl0_4_0 e h
theorem ct_fl0_5_0 : ∀ e ∈ am_flT_5_0, ct_Fl 5 e.1 e.2.1 e.2.2 := List.forall_mem_cons.mpr ⟨⟨_, rfl, by decide, Or.inl q395⟩, List.forall_mem_cons.mpr ⟨⟨_, rfl, by decide, Or.inl q400⟩, List.forall_mem_cons.mpr ⟨⟨_, rfl, by decide, Or.inl q405⟩, List.forall_mem_cons.mpr ⟨⟨_, rfl, by decide, Or.inl q408⟩, List.forall_mem_cons.mpr ⟨⟨_, rfl, by decide, Or.inl q411⟩, List.forall_mem_cons.mpr ⟨⟨_, rfl, by decide, Or.inl q415⟩, List.forall_mem_cons.mpr ⟨⟨_, rfl, by decide, Or.inl q397⟩, List.forall_mem_cons.mpr ⟨⟨_, rfl, by decide, Or.inl q414⟩, fun _ h => absurd h List.not_mem_nil⟩⟩⟩⟩⟩⟩⟩⟩
theorem ct_fl0_5 : ∀ e ∈ am_flT_5, ct_Fl 5 e.1 e.2.1 e.2.2 := fun e h => ct_fl0_5_0 e h
theorem ct_fl0_6_0 : ∀ e ∈ am_flT_6_0, ct_Fl 6 e.1 e.2.1 e.2.2 := List.forall_mem_cons.mpr ⟨⟨_, rfl, by decide, Or.inl q580⟩, List.forall_mem_cons.mpr ⟨⟨_, rfl, by decide, Or.inl q581⟩, List.forall_mem_cons.mpr ⟨⟨_, rfl, by decide, Or.inr ⟨_, q401⟩⟩, List.forall_mem_cons.mpr ⟨⟨_, rfl, by decide, Or.inl q582⟩, List.forall_mem_cons.mpr ⟨⟨_, rfl, by decide, Or.inl q584⟩, fun _ h => absurd h List.not_mem_nil⟩⟩⟩⟩⟩
theorem ct_fl0_6 : ∀ e ∈ am_flT_6, ct_Fl 6 e.1 e.2.1 e.2.2 := fun e h => ct_fl0_6_0 e h
theorem ct_fl0_8_0 : ∀ e ∈ am_flT_8_0, ct_Fl 8 e.1 e.2.1 e.2.2 := List.forall_mem_cons.mpr ⟨⟨_, rfl, by decide, Or.inl q676⟩, List.forall_mem_cons.mpr ⟨⟨_, rfl, by decide, Or.inl q678⟩, List.forall_mem_cons.mpr ⟨⟨_, rfl, by decide, Or.inl q679⟩, List.forall_mem_cons.mpr ⟨⟨_, rfl, by decide, Or.inl q711⟩, List.forall_mem_cons.mpr ⟨⟨_, rfl, by decide, Or.inl q712⟩, List.forall_mem_cons.mpr ⟨⟨_, rfl, by decide, Or.inl q715⟩, List.forall_mem_cons.mpr ⟨⟨_, rfl, by decide, Or.inl q716⟩, List.forall_mem_cons.mpr ⟨⟨_, rfl, by decide, Or.inl q717⟩, List.forall_mem_cons.mpr ⟨⟨_, rfl, by decide, Or.inl q720⟩, List.forall_mem_cons.mpr ⟨⟨_, rfl, by decide, Or.inl q721⟩, List.forall_mem_cons.mpr ⟨⟨_, rfl, by decide, Or.inl q722⟩, List.forall_mem_cons.mpr ⟨⟨_, rfl, by decide, Or.inl q724⟩, List.forall_mem_cons.mpr ⟨⟨_, rfl, by decide, Or.inl q727⟩, List.forall_mem_cons.mpr ⟨⟨_, rfl, by decide, Or.inl q728⟩, List.forall_mem_cons.mpr ⟨⟨_, rfl, by decide, Or.inl q677⟩, List.forall_mem_cons.mpr ⟨⟨_, rfl, by decide, Or.inl q681⟩, List.forall_mem_cons.mpr ⟨⟨_, rfl, by decide, Or.inr ⟨_, q402⟩⟩, List.forall_mem_cons.mpr ⟨⟨_, rfl, by decide, Or.inl q682⟩, List.forall_mem_cons.mpr ⟨⟨_, rfl, by decide, Or.inr ⟨_, q409⟩⟩, List.forall_mem_cons.mpr ⟨⟨_, rfl, by decide, Or.inr ⟨_, q412⟩⟩, List.forall_mem_cons.mpr ⟨⟨_, rfl, by decide, Or.inr ⟨_, q406⟩⟩, List.forall_mem_cons.mpr ⟨⟨_, rfl, by decide, Or.inl q683⟩, List.forall_mem_cons.mpr ⟨⟨_, rfl, by decide, Or.inl q725⟩, List.forall_mem_cons.mpr ⟨⟨_, rfl, by decide, Or.inl q686⟩, List.forall_mem_cons.mpr ⟨⟨_, rfl, by decide, Or.inl q689⟩, List.forall_mem_cons.mpr ⟨⟨_, rfl, by decide, Or.inr ⟨_, q1398⟩⟩, List.forall_mem_cons.mpr ⟨⟨_, rfl, by decide, Or.inl q706⟩, List.forall_mem_cons.mpr ⟨⟨_, rfl, by decide, Or.inr ⟨_, q1525⟩⟩, List.forall_mem_cons.mpr ⟨⟨_, rfl, by decide, Or.inr ⟨_, q1515⟩⟩, List.forall_mem_cons.mpr ⟨⟨_, rfl, by decide, Or.inr ⟨_, q1517⟩⟩, List.forall_mem_cons.mpr ⟨⟨_, rfl, by decide, Or.inr ⟨_, q1536⟩⟩, List.forall_mem_cons.mpr ⟨⟨_, rfl, by decide, Or.inr ⟨_, q1519⟩⟩, List.forall_mem_cons.mpr ⟨⟨_, rfl, by decide, Or.inr ⟨_, q1529⟩⟩, List.forall_mem_cons.mpr ⟨⟨_, rfl, by decide, Or.inr ⟨_, q1435⟩⟩, List.forall_mem_cons.mpr ⟨⟨_, rfl, by decide, Or.inl q696⟩, List.forall_mem_cons.mpr ⟨⟨_, rfl, by decide, Or.inr ⟨_, q1455⟩⟩, List.forall_mem_cons.mpr ⟨⟨_, rfl, by decide, Or.inr ⟨_, q1457⟩⟩, List.forall_mem_cons.mpr ⟨⟨_, rfl, by decide, Or.inr ⟨_, q1534⟩⟩, List.forall_mem_cons.mpr ⟨⟨_, rfl, by decide, Or.inr ⟨_, q1521⟩⟩, List.forall_mem_cons.mpr ⟨⟨_, rfl, by decide, Or.inr ⟨_, q1560⟩⟩, fun _ h => absurd h List.not_mem_nil⟩⟩⟩⟩⟩⟩⟩⟩⟩⟩⟩⟩⟩⟩⟩⟩⟩⟩⟩⟩⟩⟩⟩⟩⟩⟩⟩⟩⟩⟩⟩⟩⟩⟩⟩⟩⟩⟩⟩⟩
theorem ct_fl0_8_1 : ∀ e ∈ am_flT_8_1, ct_Fl 8 e.1 e.2.1 e.2.2 := List.forall_mem_cons.mpr ⟨⟨_, rfl, by decide, Or.inr ⟨_, q1439⟩⟩, List.forall_mem_cons.mpr ⟨⟨_, rfl, by decide, Or.inr ⟨_, q1441⟩⟩, List.forall_mem_cons.mpr ⟨⟨_, rfl, by decide, Or.inl q687⟩, List.forall_mem_cons.mpr ⟨⟨_, rfl, by decide, Or.inr ⟨_, q643⟩⟩, List.forall_mem_cons.mpr ⟨⟨_, rfl, by decide, Or.inl q704⟩, List.forall_mem_cons.mpr ⟨⟨_, rfl, by decide, Or.inl q713⟩, List.forall_mem_cons.mpr ⟨⟨_, rfl, by decide, Or.inl q705⟩, List.forall_mem_cons.mpr ⟨⟨_, rfl, by decide, Or.inl q719⟩, List.forall_mem_cons.mpr ⟨⟨_, rfl, by decide, Or.inl q723⟩, List.forall_mem_cons.mpr ⟨⟨_, rfl, by decide, Or.inl q729⟩, List.forall_mem_cons.mpr ⟨⟨_, rfl, by decide, Or.inl q726⟩, List.forall_mem_cons.mpr ⟨⟨_, rfl, by decide, Or.inl q690⟩, List.forall_mem_cons.mpr ⟨⟨_, rfl, by decide, Or.inl q693⟩, List.forall_mem_cons.mpr ⟨⟨_, rfl, by decide, Or.inl q694⟩, List.forall_mem_cons.mpr ⟨⟨_, rfl, by decide, Or.inl q695⟩, List.forall_mem_cons.mpr ⟨⟨_, rfl, by decide, Or.inl q700⟩, List.forall_mem_cons.mpr ⟨⟨_, rfl, by decide, Or.inl q701⟩, List.forall_mem_cons.mpr ⟨⟨_, rfl, by decide, Or.inl q702⟩, List.forall_mem_cons.mpr ⟨⟨_, rfl, by decide, Or.inl q699⟩, List.forall_mem_cons.mpr ⟨⟨_, rfl, by decide, Or.inl q698⟩, List.forall_mem_cons.mpr ⟨⟨_, rfl, by decide, Or.inr ⟨_, q1443⟩⟩, List.forall_mem_cons.mpr ⟨⟨_, rfl, by decide, Or.inl q697⟩, List.forall_mem_cons.mpr ⟨⟨_, rfl, by decide, Or.inr ⟨_, q1445⟩⟩, List.forall_mem_cons.mpr ⟨⟨_, rfl, by decide, Or.inl q691⟩, List.forall_mem_cons.mpr ⟨⟨_, rfl, by decide, Or.inl q692⟩, List.forall_mem_cons.mpr ⟨⟨_, rfl, by decide, Or.inr ⟨_, q1562⟩⟩, List.forall_mem_cons.mpr ⟨⟨_, rfl, by decide, Or.inr ⟨_, q445⟩⟩, List.forall_mem_cons.mpr ⟨⟨_, rfl, by decide, Or.inl q714⟩, List.forall_mem_cons.mpr ⟨⟨_, rfl, by decide, Or.inl q688⟩, List.forall_mem_cons.mpr ⟨⟨_, rfl, by decide, Or.inr ⟨_, q439⟩⟩, List.forall_mem_cons.mpr ⟨⟨_, rfl, by decide, Or.inr ⟨_, q1394⟩⟩, List.forall_mem_cons.mpr ⟨⟨_, rfl, by decide, Or.inr ⟨_, q1558⟩⟩, List.forall_mem_cons.mpr ⟨⟨_, rfl, by decide, Or.inr ⟨_, q1451⟩⟩, List.forall_mem_cons.mpr ⟨⟨_, rfl, by decide, Or.inr ⟨_, q1554⟩⟩, List.forall_mem_cons.mpr ⟨⟨_, rfl, by decide, Or.inr ⟨_, q1556⟩⟩, List.forall_mem_cons.mpr ⟨⟨_, rfl, by decide, Or.inr ⟨_, q451⟩⟩, List.forall_mem_cons.mpr ⟨⟨_, rfl, by decide, Or.inr ⟨_, q455⟩⟩, List.forall_mem_cons.mpr ⟨⟨_, rfl, by decide, Or.inr ⟨_, q1755⟩⟩, List.forall_mem_cons.mpr ⟨⟨_, rfl, by decide, Or.inr ⟨_, q1752⟩⟩, List.forall_mem_cons.mpr ⟨⟨_, rfl, by decide, Or.inr ⟨_, q1757⟩⟩, fun _ h => absurd h List.not_mem_nil⟩⟩⟩⟩⟩⟩⟩⟩⟩⟩⟩⟩⟩⟩⟩⟩⟩⟩⟩⟩⟩⟩⟩⟩⟩⟩⟩⟩⟩⟩⟩⟩⟩⟩⟩⟩⟩⟩⟩⟩
theorem ct_fl0_8_2 : ∀ e ∈ am_flT_8_2, ct_Fl 8 e.1 e.2.1 e.2.2 := List.forall_mem_cons.mpr ⟨⟨_, rfl, by decide, Or.inr ⟨_, q1531⟩⟩, List.forall_mem_cons.mpr ⟨⟨_, rfl, by decide, Or.inr ⟨_, q1753⟩⟩, List.forall_mem_cons.mpr ⟨⟨_, rfl, by decide, Or.inr ⟨_, q1523⟩⟩, List.forall_mem_cons.mpr ⟨⟨_, rfl, by decide, Or.inr ⟨_, q1437⟩⟩, List.forall_mem_cons.mpr ⟨⟨_, rfl, by decide, Or.inr ⟨_, q1447⟩⟩, List.forall_mem_cons.mpr ⟨⟨_, rfl, by decide, Or.inr ⟨_, q1449⟩⟩, List.forall_mem_cons.mpr ⟨⟨_, rfl, by decide, Or.inr ⟨_, q1538⟩⟩, List.forall_mem_cons.mpr ⟨⟨_, rfl, by decide, Or.inr ⟨_, q1540⟩⟩, List.forall_mem_cons.mpr ⟨⟨_, rfl, by decide, Or.inr ⟨_, q1542⟩⟩, List.forall_mem_cons.mpr ⟨⟨_, rfl, by decide, Or.inr ⟨_, q1527⟩⟩, List.forall_mem_cons.mpr ⟨⟨_, rfl, by decide, Or.inl q707⟩, List.forall_mem_cons.mpr ⟨⟨_, rfl, by decide, Or.inr ⟨_, q1548⟩⟩, List.forall_mem_cons.mpr ⟨⟨_, rfl, by decide, Or.inr ⟨_, q1544⟩⟩, List.forall_mem_cons.mpr ⟨⟨_, rfl, by decide, Or.inr ⟨_, q1546⟩⟩, List.forall_mem_cons.mpr ⟨⟨_, rfl, by decide, Or.inr ⟨_, q1552⟩⟩, List.forall_mem_cons.mpr ⟨⟨_, rfl, by decide, Or.inl q708⟩, List.forall_mem_cons.mpr ⟨⟨_, rfl, by decide, Or.inl q709⟩, List.forall_mem_cons.mpr ⟨⟨_, rfl, by decide, Or.inl q710⟩, List.forall_mem_cons.mpr ⟨⟨_, rfl, by decide, Or.inr ⟨_, q1751⟩⟩, List.forall_mem_cons.mpr ⟨⟨_, rfl, by decide, Or.inr ⟨_, q1754⟩⟩, List.forall_mem_cons.mpr ⟨⟨_, rfl, by decide, Or.inr ⟨_, q1756⟩⟩, List.forall_mem_cons.mpr ⟨⟨_, rfl, by decide, Or.inr ⟨_, q1550⟩⟩, List.forall_mem_cons.mpr ⟨⟨_, rfl, by decide, Or.inr ⟨_, q1400⟩⟩, fun _ h => absurd h List.not_mem_nil⟩⟩⟩⟩⟩⟩⟩⟩⟩⟩⟩⟩⟩⟩⟩⟩⟩⟩⟩⟩⟩⟩⟩
theorem ct_fl0_8 : ∀ e ∈ am_flT_8, ct_Fl 8 e.1 e.2.1 e.2.2 := fun e h => (List.mem_append.mp h).elim (ct_fl0_8_0 e) (fun h => (List.mem_append.mp h).elim (ct_fl0_8_1 e) (fun h => ct_fl0_8_2 e h))
theorem ct_fl0_9_0 : ∀ e ∈ am_flT_9_0, ct_Fl 9 e.1 e.2.1 e.2.2 := List.forall_mem_cons.mpr ⟨⟨_, rfl, by decide, Or.inl q614⟩, List.forall_mem_cons.mpr ⟨⟨_, rfl, by decide, Or.inl q615⟩, List.forall_mem_cons.mpr ⟨⟨_, rfl, by decide, Or.inl q616⟩, List.forall_mem_cons.mpr ⟨⟨_, rfl, by decide, Or.inl q617⟩, List.forall_mem_cons.mpr ⟨⟨_, rfl, by decide, Or.inl q618⟩, List.forall_mem_cons.mpr ⟨⟨_, rfl, by decide, Or.inl q619⟩, fun _ h => absurd h List.not_mem_nil⟩⟩⟩⟩⟩⟩
theorem ct_fl0_9 : ∀ e ∈ am_flT_9, ct_Fl 9 e.1 e.2.1 e.2.2 := fun e h => ct_fl0_9_0 e h
theorem ct_fl0_10_0 : ∀ e ∈ am_flT_10_0, ct_Fl 10 e.1 e.2.1 e.2.2 := List.forall_mem_cons.mpr ⟨⟨_, rfl, by decide, Or.inl q640⟩, List.forall_mem_cons.mpr ⟨⟨_, rfl, by decide, Or.inl q642⟩, fun _ h => absurd h List.not_mem_nil⟩⟩
theorem ct_fl0_10 : ∀ e ∈ am_flT_10, ct_Fl 10 e.1 e.2.1 e.2.2 := fun e h => ct_fl0_10_0 e h
theorem ct_fl0_11_0 : ∀ e ∈ am_flT_11_0, ct_Fl 11 e.1 e.2.1 e.2.2 := List.forall_mem_cons.mpr ⟨⟨_, rfl, by decide, Or.inl q1067⟩, List.forall_mem_cons.mpr ⟨⟨_, rfl, by decide, Or.inl q1068⟩, List.forall_mem_cons.mpr ⟨⟨_, rfl, by decide, Or.inl q1069⟩, List.forall_mem_cons.mpr ⟨⟨_, rfl, by decide, Or.inl q1070⟩, List.forall_mem_cons.mpr ⟨⟨_, rfl, by decide, Or.inl q1072⟩, List.forall_mem_cons.mpr ⟨⟨_, rfl, by decide, Or.inl q1073⟩, List.forall_mem_cons.mpr ⟨⟨_, rfl, by decide, Or.inl q1075⟩, List.forall_mem_cons.mpr ⟨⟨_, rfl, by decide, Or.inl q1076⟩, List.forall_mem_cons.mpr ⟨⟨_, rfl, by decide, Or.inl q1074⟩, fun _ h => absurd h List.not_mem_nil⟩⟩⟩⟩⟩⟩⟩⟩⟩
theorem ct_fl0_11 : ∀ e ∈ am_flT_11, ct_Fl 11 e.1 e.2.1 e.2.2 := fun e h => ct_fl0_11_0 e h
theorem ct_fl0_12_0 : ∀ e ∈ am_flT_12_0, ct_Fl 12 e.1 e.2.1 e.2.2 := List.forall_mem_cons.mpr ⟨⟨_, rfl, by decide, Or.inl q1149⟩, List.forall_mem_cons.mpr ⟨⟨_, rfl, by decide, Or.inl q1150⟩, List.forall_mem_cons.mpr ⟨⟨_, rfl, by decide, Or.inl q1156⟩, List.forall_mem_cons.mpr ⟨⟨_, rfl, by decide, Or.inl q1158⟩, List.forall_mem_cons.mpr ⟨⟨_, rfl, by decide, Or.inl q1161⟩, List.forall_mem_cons.mpr ⟨⟨_, rfl, by decide, Or.inl q1171⟩, List.forall_mem_cons.mpr ⟨⟨_, rfl, by decide, Or.inl q1173⟩, List.forall_mem_cons.mpr ⟨⟨_, rfl, by decide, Or.inr ⟨_, q1110⟩⟩, List.forall_mem_cons.mpr ⟨⟨_, rfl, by decide, Or.inr ⟨_, q1116⟩⟩, List.forall_mem_cons.mpr ⟨⟨_, rfl, by decide, Or.inr ⟨_, q1113⟩⟩, List.forall_mem_cons.mpr ⟨⟨_, rfl, by decide, Or.inl q1152⟩, List.forall_mem_cons.mpr ⟨⟨_, rfl, by decide, Or.inr ⟨_, q1118⟩⟩, List.forall_mem_cons.mpr ⟨⟨_, rfl, by decide, Or.inl q1154⟩, List.forall_mem_cons.mpr ⟨⟨_, rfl, by decide, Or.inl q1162⟩, List.forall_mem_cons.mpr ⟨⟨_, rfl, by decide, Or.inl q1163⟩, List.forall_mem_cons.mpr ⟨⟨_, rfl, by decide, Or.inl q1165⟩, List.forall_mem_cons.mpr ⟨⟨_, rfl, by decide, Or.inl q1166⟩, List.forall_mem_cons.mpr ⟨⟨_, rfl, by decide, Or.inl q1168⟩, List.forall_mem_cons.mpr ⟨⟨_, rfl, by decide, Or.inl q1169⟩, List.forall_mem_cons.mpr ⟨⟨_, rfl, by decide, Or.inl q1170⟩, List.forall_mem_cons.mpr ⟨⟨_, rfl, by decide, Or.inl q1174⟩, List.forall_mem_cons.mpr ⟨⟨_, rfl, by decide, Or.inl q1176⟩, List.forall_mem_cons.mpr ⟨⟨_, rfl, by decide, Or.inl q1177⟩, List.forall_mem_cons.mpr ⟨⟨_, rfl, by decide, Or.inl q1167⟩, List.forall_mem_cons.mpr ⟨⟨_, rfl, by decide, Or.inr ⟨_, q1120⟩⟩, fun _ h => absurd h List.not_mem_nil⟩⟩⟩⟩⟩⟩⟩⟩⟩⟩⟩⟩⟩⟩⟩⟩⟩⟩⟩⟩⟩⟩⟩⟩⟩
theorem ct_fl0_12 : ∀ e ∈ am_flT_12, ct_Fl 12 e.1 e.2.1 e.2.2 := fun e h => ct_fl0_12_0 e h
theorem ct_fl0_13_0 : ∀ e ∈ am_flT_13_0, ct_Fl 13 e.1 e.2.1 e.2.2 := List.forall_mem_cons.mpr ⟨⟨_, rfl, by decide, Or.inl q1109⟩, List.forall_mem_cons.mpr ⟨⟨_, rfl, by decide, Or.inl q1111⟩, List.forall_mem_cons.mpr ⟨⟨_, rfl, by decide, Or.inl q1112⟩, List.forall_mem_cons.mpr ⟨⟨_, rfl, by decide, Or.inl q1122⟩, List.forall_mem_cons.mpr ⟨⟨_, rfl, by decide, Or.inl q1119⟩, List.forall_mem_cons.mpr ⟨⟨_, rfl, by decide, Or.inl q1123⟩, List.forall_mem_cons.mpr ⟨⟨_, rfl, by decide, Or.inl q1114⟩, List.forall_mem_cons.mpr ⟨⟨_, rfl, by decide, Or.inl q1115⟩, List.forall_mem_cons.mpr ⟨⟨_, rfl, by decide, Or.inl q1117⟩, List.forall_mem_cons.mpr ⟨⟨_, rfl, by decide, Or.inl q1124⟩, List.forall_mem_cons.mpr ⟨⟨_, rfl, by decide, Or.inl q1121⟩, fun _ h => absurd h List.not_mem_nil⟩⟩⟩⟩⟩⟩⟩⟩⟩⟩⟩
theorem ct_fl0_13 : ∀ e ∈ am_flT_13, ct_Fl 13 e.1 e.2.1 e.2.2 := fun e h => ct_fl0_13_0 e h
theorem ct_fl0_15_0 : ∀ e ∈ am_flT_15_0, ct_Fl 15 e.1 e.2.1 e.2.2 := List.forall_mem_cons.mpr ⟨⟨_, rfl, by decide, Or.inl q1393⟩, List.forall_mem_cons.mpr ⟨⟨_, rfl, by decide, Or.inl q1395⟩, List.forall_mem_cons.mpr ⟨⟨_, rfl, by decide, Or.inl q1397⟩, List.forall_mem_cons.mpr ⟨⟨_, rfl, by decide, Or.inl q1399⟩, List.forall_mem_cons.mpr ⟨⟨_, rfl, by decide, Or.inl q1401⟩, List.forall_mem_cons.mpr ⟨⟨_, rfl, by decide, Or.inl q1403⟩, List.forall_mem_cons.mpr ⟨⟨_, rfl, by decide, Or.inr ⟨_, q1533⟩⟩, fun _ h => absurd h List.not_mem_nil⟩⟩⟩⟩⟩⟩⟩
theorem ct_fl0_15 : ∀ e ∈ am_flT_15, ct_Fl 15 e.1 e.2.1 e.2.2 := fun e h => ct_fl0_15_0 e h
theorem ct_fl0_16_0 : ∀ e ∈ am_flT_16_0, ct_Fl 16 e.1 e.2.1 e.2.2 := List.forall_mem_cons.mpr ⟨⟨_, rfl, by decide, Or.inl q1434⟩, List.forall_mem_cons.mpr ⟨⟨_, rfl, by decide, Or.inl q1436⟩, List.forall_mem_cons.mpr ⟨⟨_, rfl, by decide, Or.inl q1438⟩, List.forall_mem_cons.mpr ⟨⟨_, rfl, by decide, Or.inl q1440⟩, List.forall_mem_cons.mpr ⟨⟨_, rfl, by decide, Or.inl q1442⟩, List.forall_mem_cons.mpr ⟨⟨_, rfl, by decide, Or.inl q1444⟩, List.forall_mem_cons.mpr ⟨⟨_, rfl, by decide, Or.inl q1446⟩, List.forall_mem_cons.mpr ⟨⟨_, rfl, by decide, Or.inl q1448⟩, List.forall_mem_cons.mpr ⟨⟨_, rfl, by decide, Or.inl q1450⟩, List.forall_mem_cons.mpr ⟨⟨_, rfl, by decide, Or.inl q1452⟩, List.forall_mem_cons.mpr ⟨⟨_, rfl, by decide, Or.inl q1454⟩, List.forall_mem_cons.mpr ⟨⟨_, rfl, by decide, Or.inl q1456⟩, fun _ h => absurd h List.not_mem_nil⟩⟩⟩⟩⟩⟩⟩⟩⟩⟩⟩⟩
theorem ct_fl0_16 : ∀ e ∈ am_flT_16, ct_Fl 16 e.1 e.2.1 e.2.2 := fun e h => ct_fl0_16_0 e h
theorem ct_fl0_17_0 : ∀ e ∈ am_flT_17_0, ct_Fl 17 e.1 e.2.1 e.2.2 := List.forall_mem_cons.mpr ⟨⟨_, rfl, by decide, Or.inl q1514⟩, List.forall_mem_cons.mpr ⟨⟨_, rfl, by decide, Or.inl q1516⟩, List.forall_mem_cons.mpr ⟨⟨_, rfl, by decide, Or.inl q1518⟩, List.forall_mem_cons.mpr ⟨⟨_, rfl, by decide, Or.inl q1528⟩, List.forall_mem_cons.mpr ⟨⟨_, rfl, by decide, Or.inl q1520⟩, List.forall_mem_cons.mpr ⟨⟨_, rfl, by decide, Or.inl q1522⟩, List.forall_mem_cons.mpr ⟨⟨_, rfl, by decide, Or.inl q1524⟩, List.forall_mem_cons.mpr ⟨⟨_, rfl, by decide, Or.inl q1526⟩, List.forall_mem_cons.mpr ⟨⟨_, rfl, by decide, Or.inl q1530⟩, List.forall_mem_cons.mpr ⟨⟨_, rfl, by decide, Or.inl q1532⟩, List.forall_mem_cons.mpr ⟨⟨_, rfl, by decide, Or.inl q1535⟩, List.forall_mem_cons.mpr ⟨⟨_, rfl, by decide, Or.inl q1537⟩, List.forall_mem_cons.mpr ⟨⟨_, rfl, by decide, Or.inl q1539⟩, List.forall_mem_cons.mpr ⟨⟨_, rfl, by decide, Or.inl q1541⟩, List.forall_mem_cons.mpr ⟨⟨_, rfl, by decide, Or.inl q1543⟩, List.forall_mem_cons.mpr ⟨⟨_, rfl, by decide, Or.inl q1545⟩, List.forall_mem_cons.mpr ⟨⟨_, rfl, by decide, Or.inl q1547⟩, List.forall_mem_cons.mpr ⟨⟨_, rfl, by decide, Or.inl q1549⟩, List.forall_mem_cons.mpr ⟨⟨_, rfl, by decide, Or.inl q1551⟩, List.forall_mem_cons.mpr ⟨⟨_, rfl, by decide, Or.inl q1553⟩, List.forall_mem_cons.mpr ⟨⟨_, rfl, by decide, Or.inl q1555⟩, List.forall_mem_cons.mpr ⟨⟨_, rfl, by decide, Or.inl q1557⟩, List.forall_mem_cons.mpr ⟨⟨_, rfl, by decide, Or.inl q1559⟩, List.forall_mem_cons.mpr ⟨⟨_, rfl, by decide, Or.inl q1561⟩, fun _ h => absurd h List.not_mem_nil⟩⟩⟩⟩⟩⟩⟩⟩⟩⟩⟩⟩⟩⟩⟩⟩⟩⟩⟩⟩⟩⟩⟩⟩
theorem ct_fl0_17 : ∀ e ∈ am_flT_17, ct_Fl 17 e.1 e.2.1 e.2.2 := fun e h => ct_fl0_17_0 e h
theorem ct_fl0_19_0 : ∀ e ∈ am_flT_19_0, ct_Fl 19 e.1 e.2.1 e.2.2 := List.forall_mem_cons.mpr ⟨⟨_, rfl, by decide, Or.inl q998⟩, List.forall_mem_cons.mpr ⟨⟨_, rfl, by decide, Or.inl q999⟩, fun _ h => absurd h List.not_mem_nil⟩⟩
theorem ct_fl0_19 : ∀ e ∈ am_flT_19, ct_Fl 19 e.1 e.2.1 e.2.2 := fun e h => ct_fl0_19_0 e h
theorem ct_fl0_25_0 : ∀ e ∈ am_flT_25_0, ct_Fl 25 e.1 e.2.1 e.2.2 := List.forall_mem_cons.mpr ⟨⟨_, rfl, by decide, Or.inl q569⟩, List.forall_mem_cons.mpr ⟨⟨_, rfl, by decide, Or.inl q570⟩, List.forall_mem_cons.mpr ⟨⟨_, rfl, by decide, Or.inl q571⟩, List.forall_mem_cons.mpr ⟨⟨_, rfl, by decide, Or.inl q568⟩, fun _ h => absurd h List.not_mem_nil⟩⟩⟩⟩
theorem ct_fl0_25 : ∀ e ∈ am_flT_25, ct_Fl 25 e.1 e.2.1 e.2.2 := fun e h => ct_fl0_25_0 e h
theorem ct_fl0 (own : Nat) : ∀ e ∈ am_flL.getD own [], ct_Fl own e.1 e.2.1 e.2.2 := by
  match own with
  | 0 => exact fun _ h => absurd h List.not_mem_nil
  | 1 => exact ct_fl0_1
  | 2 => exact ct_fl0_2
  | 3 => exact ct_fl0_3
  | 4 => exact ct_fl0_4
  | 5 => exact ct_fl0_5
  | 6 => exact ct_fl0_6
  | 7 => exact fun _ h => absurd h List.not_mem_nil
  | 8 => exact ct_fl0_8
  | 9 => exact ct_fl0_9
  | 10 => exact ct_fl0_10
  | 11 => exact ct_fl0_11
  | 12 => exact ct_fl0_12
  | 13 => exact ct_fl0_13
  | 14 => exact fun _ h => absurd h List.not_mem_nil
  | 15 => exact ct_fl0_15
  | 16 => exact ct_fl0_16
  | 17 => exact ct_fl0_17
  | 18 => exact fun _ h => absurd h List.not_mem_nil
  | 19 => exact ct_fl0_19
  | 20 => exact fun _ h => absurd h List.not_mem_nil
  | 21 => exact fun _ h => absurd h List.not_mem_nil
  | 22 => exact fun _ h => absurd h List.not_mem_nil
  | 23 => exact fun _ h => absurd h List.not_mem_nil
  | 24 => exact fun _ h => absurd h List.not_mem_nil
  | 25 => exact ct_fl0_25
  | 26 => exact fun _ h => absurd h List.not_mem_nil
  | 27 => exact fun _ h => absurd h List.not_mem_nil
  | 28 => exact fun _ h => absurd h List.not_mem_nil
  | n + 29 => exact fun _ h => absurd h (by simp [am_flL])
theorem ct_fl {own x c k : Nat} (h : am_fl own x = some (c, k)) : ct_Fl own x c k := ct_fl0 own _ (ct_lk h)
def ct_St (own x : Nat) (C n d : String) : Prop := Cond.fieldLink (am_nm own) x C n d ∈ lw_all ∨ ∃ host, Cond.fieldLinkNest (am_nm own) x C n d host ∈ lw_tbl
def ct_Nw (own x c : Nat) : Prop := Cond.classLink (am_nm own) x (am_nm c) ∈ lw_all ∧ Cond.instantiable (am_nm c) (am_sl0 c) ∈ lw_all ∧ Cond.initialized (am_nm c) ∈ lw_all ∧ c < 20 ∧ 0 < c ∧ (∃ r : vw_C, am_cls[c]? = some r ∧ r.1 = am_nm c)
theorem ct_nw0_0_0 : ∀ e ∈ am_nwT_0_0, ct_Nw 0 e.1 e.2 := List.forall_mem_cons.mpr ⟨⟨q314, q315, q285, by decide, by decide, _, rfl, rfl⟩, fun _ h => absurd h List.not_mem_nil⟩
theorem ct_nw0_0 : ∀ e ∈ am_nwT_0, ct_Nw 0 e.1 e.2 := fun e h => ct_nw0_0_0 e h
theorem ct_nw0_1_0 : ∀ e ∈ am_nwT_1_0, ct_Nw 1 e.1 e.2 := List.forall_mem_cons.mpr ⟨⟨q322, q323, q286, by decide, by decide, _, rfl, rfl⟩, List.forall_mem_cons.mpr ⟨⟨q376, q377, q287, by decide, by decide, _, rfl, rfl⟩, List.forall_mem_cons.mpr ⟨⟨q510, q511, q290, by decide, by decide, _, rfl, rfl⟩, List.forall_mem_cons.mpr ⟨⟨q594, q595, q295, by decide, by decide, _, rfl, rfl⟩, List.forall_mem_cons.mpr ⟨⟨q831, q832, q298, by decide, by decide, _, rfl, rfl⟩, List.forall_mem_cons.mpr ⟨⟨q1096, q1097, q306, by decide, by decide, _, rfl, rfl⟩, List.forall_mem_cons.mpr ⟨⟨q1221, q384, q288, by decide, by decide, _, rfl, rfl⟩, List.forall_mem_cons.mpr ⟨⟨q1223, q1224, q308, by decide, by decide, _, rfl, rfl⟩, List.forall_mem_cons.mpr ⟨⟨q1239, q1103, q307, by decide, by decide, _, rfl, rfl⟩, fun _ h => absurd h List.not_mem_nil⟩⟩⟩⟩⟩⟩⟩⟩⟩
theorem ct_nw0_1 : ∀ e ∈ am_nwT_1, ct_Nw 1 e.1 e.2 := fun e h => ct_nw0_1_0 e h
theorem ct_nw0_3_0 : ∀ e ∈ am_nwT_3_0, ct_Nw 3 e.1 e.2 := List.forall_mem_cons.mpr ⟨⟨q382, q384, q288, by decide, by decide, _, rfl, rfl⟩, fun _ h => absurd h List.not_mem_nil⟩
theorem ct_nw0_3 : ∀ e ∈ am_nwT_3, ct_Nw 3 e.1 e.2 := fun e h => ct_nw0_3_0 e h
theorem ct_nw0_4_0 : ∀ e ∈ am_nwT_4_0, ct_Nw 4 e.1 e.2 := List.forall_mem_cons.mpr ⟨⟨q389, q390, q289, by decide, by decide, _, rfl, rfl⟩, fun _ h => absurd h List.not_mem_nil⟩
theorem ct_nw0_4 : ∀ e ∈ am_nwT_4, ct_Nw 4 e.1 e.2 := fun e h => ct_nw0_4_0 e h
theorem ct_nw0_6_0 : ∀ e ∈ am_nwT_6_0, ct_Nw 6 e.1 e.2 := List.forall_mem_cons.mpr ⟨⟨q516, q517, q294, by decide, by decide, _, rfl, rfl⟩, fun _ h => absurd h List.not_mem_nil⟩
theorem ct_nw0_6 : ∀ e ∈ am_nwT_6, ct_Nw 6 e.1 e.2 := fun e h => ct_nw0_6_0 e h
theorem ct_nw0_8_0 : ∀ e ∈ am_nwT_8_0, ct_Nw 8 e.1 e.2 := List.forall_mem_cons.mpr ⟨⟨q600, q517, q294, by decide, by decide, _, rfl, rfl⟩, List.forall_mem_cons.mpr ⟨⟨q602, q603, q296, by decide, by decide, _, rfl, rfl⟩, List.forall_mem_cons.mpr ⟨⟨q633, q634, q297, by decide, by decide, _, rfl, rfl⟩, List.forall_mem_cons.mpr ⟨⟨q674, q1746, q312, by decide, by decide, _, rfl, rfl⟩, fun _ h => absurd h List.not_mem_nil⟩⟩⟩⟩
theorem ct_nw0_8 : ∀ e ∈ am_nwT_8, ct_Nw 8 e.1 e.2 := fun e h => ct_nw0_8_0 e h
theorem ct_nw0_9_0 : ∀ e ∈ am_nwT_9_0, ct_Nw 9 e.1 e.2 := List.forall_mem_cons.mpr ⟨⟨q608, q1429, q310, by decide, by decide, _, rfl, rfl⟩, List.forall_mem_cons.mpr ⟨⟨q610, q1509, q311, by decide, by decide, _, rfl, rfl⟩, List.forall_mem_cons.mpr ⟨⟨q612, q1388, q309, by decide, by decide, _, rfl, rfl⟩, fun _ h => absurd h List.not_mem_nil⟩⟩⟩
theorem ct_nw0_9 : ∀ e ∈ am_nwT_9, ct_Nw 9 e.1 e.2 := fun e h => ct_nw0_9_0 e h
theorem ct_nw0_12_0 : ∀ e ∈ am_nwT_12_0, ct_Nw 12 e.1 e.2 := List.forall_mem_cons.mpr ⟨⟨q1102, q1103, q307, by decide, by decide, _, rfl, rfl⟩, fun _ h => absurd h List.not_mem_nil⟩
theorem ct_nw0_12 : ∀ e ∈ am_nwT_12, ct_Nw 12 e.1 e.2 := fun e h => ct_nw0_12_0 e h
theorem ct_nw0_20_0 : ∀ e ∈ am_nwT_20_0, ct_Nw 20 e.1 e.2 := List.forall_mem_cons.mpr ⟨⟨q970, q971, q299, by decide, by decide, _, rfl, rfl⟩, fun _ h => absurd h List.not_mem_nil⟩
theorem ct_nw0_20 : ∀ e ∈ am_nwT_20, ct_Nw 20 e.1 e.2 := fun e h => ct_nw0_20_0 e h
theorem ct_nw0 (own : Nat) : ∀ e ∈ am_nwL.getD own [], ct_Nw own e.1 e.2 := by
  match own with
  | 0 => exact ct_nw0_0
  | 1 => exact ct_nw0_1
  | 2 => exact fun _ h => absurd h List.not_mem_nil
  | 3 => exact ct_nw0_3
  | 4 => exact ct_nw0_4
  | 5 => exact fun _ h => absurd h List.not_mem_nil
  | 6 => exact ct_nw0_6
  | 7 => exact fun _ h => absurd h List.not_mem_nil
  | 8 => exact ct_nw0_8
  | 9 => exact ct_nw0_9
  | 10 => exact fun _ h => absurd h List.not_mem_nil
  | 11 => exact fun _ h => absurd h List.not_mem_nil
  | 12 => exact ct_nw0_12
  | 13 => exact fun _ h => absurd h List.not_mem_nil
  | 14 => exact fun _ h => absurd h List.not_mem_nil
  | 15 => exact fun _ h => absurd h List.not_mem_nil
  | 16 => exact fun _ h => absurd h List.not_mem_nil
  | 17 => exact fun _ h => absurd h List.not_mem_nil
  | 18 => exact fun _ h => absurd h List.not_mem_nil
  | 19 => exact fun _ h => absurd h List.not_mem_nil
  | 20 => exact ct_nw0_20
  | 21 => exact fun _ h => absurd h List.not_mem_nil
  | 22 => exact fun _ h => absurd h List.not_mem_nil
  | 23 => exact fun _ h => absurd h List.not_mem_nil
  | 24 => exact fun _ h => absurd h List.not_mem_nil
  | 25 => exact fun _ h => absurd h List.not_mem_nil
  | 26 => exact fun _ h => absurd h List.not_mem_nil
  | 27 => exact fun _ h => absurd h List.not_mem_nil
  | 28 => exact fun _ h => absurd h List.not_mem_nil
  | n + 29 => exact fun _ h => absurd h (by simp [am_nwL])
theorem ct_nw {own x c : Nat} (h : am_nw own x = some c) : ct_Nw own x c := ct_nw0 own _ (ct_lk h)
def ct_An (own x k : Nat) : Prop := ∃ c, am_ra k = some c ∧ Cond.classLink (am_nm own) x (am_nm c) ∈ lw_all ∧ Cond.arrayOver (.object (am_nm c)) ∈ lw_tbl ∧ 44 ≤ k ∧ k < 50
theorem ct_an0_1_0 : ∀ e ∈ am_anT_1_0, ct_An 1 e.1 e.2 := List.forall_mem_cons.mpr ⟨⟨_, rfl, q1221, q383, by decide, by decide⟩, fun _ h => absurd h List.not_mem_nil⟩
theorem ct_an0_1 : ∀ e ∈ am_anT_1, ct_An 1 e.1 e.2 := fun e h => ct_an0_1_0 e h
theorem ct_an0_2_0 : ∀ e ∈ am_anT_2_0, ct_An 2 e.1 e.2 := List.forall_mem_cons.mpr ⟨⟨_, rfl, q328, q329, by decide, by decide⟩, fun _ h => absurd h List.not_mem_nil⟩
theorem ct_an0_2 : ∀ e ∈ am_anT_2, ct_An 2 e.1 e.2 := fun e h => ct_an0_2_0 e h
theorem ct_an0_3_0 : ∀ e ∈ am_anT_3_0, ct_An 3 e.1 e.2 := List.forall_mem_cons.mpr ⟨⟨_, rfl, q382, q383, by decide, by decide⟩, fun _ h => absurd h List.not_mem_nil⟩
theorem ct_an0_3 : ∀ e ∈ am_anT_3, ct_An 3 e.1 e.2 := fun e h => ct_an0_3_0 e h
theorem ct_an0_8_0 : ∀ e ∈ am_anT_8_0, ct_An 8 e.1 e.2 := List.forall_mem_cons.mpr ⟨⟨_, rfl, q649, q609, by decide, by decide⟩, List.forall_mem_cons.mpr ⟨⟨_, rfl, q650, q329, by decide, by decide⟩, List.forall_mem_cons.mpr ⟨⟨_, rfl, q674, q675, by decide, by decide⟩, fun _ h => absurd h List.not_mem_nil⟩⟩⟩
theorem ct_an0_8 : ∀ e ∈ am_anT_8, ct_An 8 e.1 e.2 := fun e h => ct_an0_8_0 e h
theorem ct_an0_9_0 : ∀ e ∈ am_anT_9_0, ct_An 9 e.1 e.2 := List.forall_mem_cons.mpr ⟨⟨_, rfl, q608, q609, by decide, by decide⟩, List.forall_mem_cons.mpr ⟨⟨_, rfl, q610, q611, by decide, by decide⟩, List.forall_mem_cons.mpr ⟨⟨_, rfl, q612, q613, by decide, by decide⟩, fun _ h => absurd h List.not_mem_nil⟩⟩⟩
theorem ct_an0_9 : ∀ e ∈ am_anT_9, ct_An 9 e.1 e.2 := fun e h => ct_an0_9_0 e h
theorem ct_an0_11_0 : ∀ e ∈ am_anT_11_0, ct_An 11 e.1 e.2 := List.forall_mem_cons.mpr ⟨⟨_, rfl, q837, q329, by decide, by decide⟩, fun _ h => absurd h List.not_mem_nil⟩
theorem ct_an0_11 : ∀ e ∈ am_anT_11, ct_An 11 e.1 e.2 := fun e h => ct_an0_11_0 e h
theorem ct_an0 (own : Nat) : ∀ e ∈ am_anL.getD own [], ct_An own e.1 e.2 := by
  match own with
  | 0 => exact fun _ h => absurd h List.not_mem_nil
  | 1 => exact ct_an0_1
  | 2 => exact ct_an0_2
  | 3 => exact ct_an0_3
  | 4 => exact fun _ h => absurd h List.not_mem_nil
  | 5 => exact fun _ h => absurd h List.not_mem_nil
  | 6 => exact fun _ h => absurd h List.not_mem_nil
  | 7 => exact fun _ h => absurd h List.not_mem_nil
  | 8 => exact ct_an0_8
  | 9 => exact ct_an0_9
  | 10 => exact fun _ h => absurd h List.not_mem_nil
  | 11 => exact ct_an0_11
  | 12 => exact fun _ h => absurd h List.not_mem_nil
  | 13 => exact fun _ h => absurd h List.not_mem_nil
  | 14 => exact fun _ h => absurd h List.not_mem_nil
  | 15 => exact fun _ h => absurd h List.not_mem_nil
  | 16 => exact fun _ h => absurd h List.not_mem_nil
  | 17 => exact fun _ h => absurd h List.not_mem_nil
  | 18 => exact fun _ h => absurd h List.not_mem_nil
  | 19 => exact fun _ h => absurd h List.not_mem_nil
  | 20 => exact fun _ h => absurd h List.not_mem_nil
  | 21 => exact fun _ h => absurd h List.not_mem_nil
  | 22 => exact fun _ h => absurd h List.not_mem_nil
  | 23 => exact fun _ h => absurd h List.not_mem_nil
  | 24 => exact fun _ h => absurd h List.not_mem_nil
  | 25 => exact fun _ h => absurd h List.not_mem_nil
  | 26 => exact fun _ h => absurd h List.not_mem_nil
  | 27 => exact fun _ h => absurd h List.not_mem_nil
  | 28 => exact fun _ h => absurd h List.not_mem_nil
  | n + 29 => exact fun _ h => absurd h (by simp [am_anL])
theorem ct_an {own x k : Nat} (h : am_an own x = some k) : ct_An own x k := ct_an0 own _ (ct_lk h)
def ct_Cc (own x c : Nat) : Prop := Cond.classLink (am_nm own) x (am_nm c) ∈ lw_all ∧ ∃ r : vw_C, am_cls[c]? = some r ∧ r.1 = am_nm c
theorem ct_cc0_19_0 : ∀ e ∈ am_ccT_19_0, ct_Cc 19 e.1 e.2 := List.forall_mem_cons.mpr ⟨⟨q1056, _, rfl, rfl⟩, fun _ h => absurd h List.not_mem_nil⟩
theorem ct_cc0_19 : ∀ e ∈ am_ccT_19, ct_Cc 19 e.1 e.2 := fun e h => ct_cc0_19_0 e h
theorem ct_cc0 (own : Nat) : ∀ e ∈ am_ccL.getD own [], ct_Cc own e.1 e.2 := by
  match own with
  | 0 => exact fun _ h => absurd h List.not_mem_nil
  | 1 => exact fun _ h => absurd h List.not_mem_nil
  | 2 => exact fun _ h => absurd h List.not_mem_nil
  | 3 => exact fun _ h => absurd h List.not_mem_nil
  | 4 => exact fun _ h => absurd h List.not_mem_nil
  | 5 => exact fun _ h => absurd h List.not_mem_nil
  | 6 => exact fun _ h => absurd h List.not_mem_nil
  | 7 => exact fun _ h => absurd h List.not_mem_nil
  | 8 => exact fun _ h => absurd h List.not_mem_nil
  | 9 => exact fun _ h => absurd h List.not_mem_nil
  | 10 => exact fun _ h => absurd h List.not_mem_nil
  | 11 => exact fun _ h => absurd h List.not_mem_nil
  | 12 => exact fun _ h => absurd h List.not_mem_nil
  | 13 => exact fun _ h => absurd h List.not_mem_nil
  | 14 => exact fun _ h => absurd h List.not_mem_nil
  | 15 => exact fun _ h => absurd h List.not_mem_nil
  | 16 => exact fun _ h => absurd h List.not_mem_nil
  | 17 => exact fun _ h => absurd h List.not_mem_nil
  | 18 => exact fun _ h => absurd h List.not_mem_nil
  | 19 => exact ct_cc0_19
  | 20 => exact fun _ h => absurd h List.not_mem_nil
  | 21 => exact fun _ h => absurd h List.not_mem_nil
  | 22 => exact fun _ h => absurd h List.not_mem_nil
  | 23 => exact fun _ h => absurd h List.not_mem_nil
  | 24 => exact fun _ h => absurd h List.not_mem_nil
  | 25 => exact fun _ h => absurd h List.not_mem_nil
  | 26 => exact fun _ h => absurd h List.not_mem_nil
  | 27 => exact fun _ h => absurd h List.not_mem_nil
  | 28 => exact fun _ h => absurd h List.not_mem_nil
  | n + 29 => exact fun _ h => absurd h (by simp [am_ccL])
theorem ct_cc {own x c : Nat} (h : am_cc own x = some c) : ct_Cc own x c := ct_cc0 own _ (ct_lk h)
def ct_Cn (own x : Nat) (v : Value) : Prop := (∃ z, v = .int z ∧ Cond.constant (am_nm own) x z ∈ lw_all) ∨ (∃ z, v = .long z ∧ Cond.constantLong (am_nm own) x z ∈ lw_all) ∨ ∃ a, v = .ref a ∧ (∃ t, Cond.stringRef (am_nm own) x t ∈ lw_tbl) ∧ am_i a < am_P ∧ 3 < am_i a ∧ am_pre (am_i a) = a
theorem ct_cn0_0_0 : ∀ e ∈ am_cnT_0_0, ct_Cn 0 e.1 e.2 := List.forall_mem_cons.mpr ⟨Or.inr (Or.inl ⟨_, rfl, q2783⟩), List.forall_mem_cons.mpr ⟨Or.inr (Or.inl ⟨_, rfl, q3073⟩), List.forall_mem_cons.mpr ⟨Or.inr (Or.inl ⟨_, rfl, q3086⟩), List.forall_mem_cons.mpr ⟨Or.inr (Or.inl ⟨_, rfl, q3090⟩), List.forall_mem_cons.mpr ⟨Or.inr (Or.inl ⟨_, rfl, q3091⟩), List.forall_mem_cons.mpr ⟨Or.inr (Or.inl ⟨_, rfl, q3092⟩), List.forall_mem_cons.mpr ⟨Or.inr (Or.inl ⟨_, rfl, q3099⟩), List.forall_mem_cons.mpr ⟨Or.inr (Or.inl ⟨_, rfl, q3100⟩), List.forall_mem_cons.mpr ⟨Or.inr (Or.inl ⟨_, rfl, q3101⟩), List.forall_mem_cons.mpr ⟨Or.inr (Or.inl ⟨_, rfl, q3102⟩), List.forall_mem_cons.mpr ⟨Or.inr (Or.inl ⟨_, rfl, q3103⟩), List.forall_mem_cons.mpr ⟨Or.inr (Or.inl ⟨_, rfl, q3126⟩), List.forall_mem_cons.mpr ⟨Or.inr (Or.inl ⟨_, rfl, q3130⟩), List.forall_mem_cons.mpr ⟨Or.inr (Or.inl ⟨_, rfl, q3131⟩), List.forall_mem_cons.mpr ⟨Or.inr (Or.inl ⟨_, rfl, q3132⟩), List.forall_mem_cons.mpr ⟨Or.inr (Or.inl ⟨_, rfl, q3141⟩), List.forall_mem_cons.mpr ⟨Or.inr (Or.inl ⟨_, rfl, q3136⟩), List.forall_mem_cons.mpr ⟨Or.inr (Or.inl ⟨_, rfl, q3137⟩), List.forall_mem_cons.mpr ⟨Or.inr (Or.inl ⟨_, rfl, q3142⟩), List.forall_mem_cons.mpr ⟨Or.inr (Or.inl ⟨_, rfl, q3104⟩), List.forall_mem_cons.mpr ⟨Or.inr (Or.inl ⟨_, rfl, q3105⟩), List.forall_mem_cons.mpr ⟨Or.inr (Or.inl ⟨_, rfl, q3106⟩), List.forall_mem_cons.mpr ⟨Or.inr (Or.inl ⟨_, rfl, q3107⟩), List.forall_mem_cons.mpr ⟨Or.inr (Or.inl ⟨_, rfl, q3108⟩), List.forall_mem_cons.mpr ⟨Or.inr (Or.inl ⟨_, rfl, q3109⟩), List.forall_mem_cons.mpr ⟨Or.inr (Or.inl ⟨_, rfl, q3110⟩), List.forall_mem_cons.mpr ⟨Or.inr (Or.inl ⟨_, rfl, q3111⟩), List.forall_mem_cons.mpr ⟨Or.inr (Or.inl ⟨_, rfl, q3112⟩), List.forall_mem_cons.mpr ⟨Or.inr (Or.inl ⟨_, rfl, q3113⟩), List.forall_mem_cons.mpr ⟨Or.inr (Or.inl ⟨_, rfl, q3114⟩), List.forall_mem_cons.mpr ⟨Or.inr (Or.inl ⟨_, rfl, q3115⟩), List.forall_mem_cons.mpr ⟨Or.inr (Or.inl ⟨_, rfl, q3116⟩), List.forall_mem_cons.mpr ⟨Or.inr (Or.inl ⟨_, rfl, q3143⟩), List.forall_mem_cons.mpr ⟨Or.inr (Or.inl ⟨_, rfl, q3144⟩), List.forall_mem_cons.mpr ⟨Or.inr (Or.inl ⟨_, rfl, q3145⟩), List.forall_mem_cons.mpr ⟨Or.inr (Or.inl ⟨_, rfl, q3146⟩), List.forall_mem_cons.mpr ⟨Or.inr (Or.inl ⟨_, rfl, q3147⟩), List.forall_mem_cons.mpr ⟨Or.inr (Or.inl ⟨_, rfl, q3148⟩), List.forall_mem_cons.mpr ⟨Or.inr (Or.inl ⟨_, rfl, q3149⟩), List.forall_mem_cons.mpr ⟨Or.inr (Or.inl ⟨_, rfl, q3150⟩), fun _ h => absurd h List.not_mem_nil⟩⟩⟩⟩⟩⟩⟩⟩⟩⟩⟩⟩⟩⟩⟩⟩⟩⟩⟩⟩⟩⟩⟩⟩⟩⟩⟩⟩⟩⟩⟩⟩⟩⟩⟩⟩⟩⟩⟩⟩
theorem ct_cn0_0_1 : ∀ e ∈ am_cnT_0_1, ct_Cn 0 e.1 e.2 := List.forall_mem_cons.mpr ⟨Or.inr (Or.inl ⟨_, rfl, q3151⟩), List.forall_mem_cons.mpr ⟨Or.inr (Or.inl ⟨_, rfl, q3152⟩), List.forall_mem_cons.mpr ⟨Or.inr (Or.inl ⟨_, rfl, q3153⟩), List.forall_mem_cons.mpr ⟨Or.inr (Or.inl ⟨_, rfl, q3154⟩), List.forall_mem_cons.mpr ⟨Or.inr (Or.inl ⟨_, rfl, q3155⟩), List.forall_mem_cons.mpr ⟨Or.inr (Or.inl ⟨_, rfl, q3156⟩), fun _ h => absurd h List.not_mem_nil⟩⟩⟩⟩⟩⟩
theorem ct_cn0_0 : ∀ e ∈ am_cnT_0, ct_Cn 0 e.1 e.2 := fun e h => (List.mem_append.mp h).elim (ct_cn0_0_0 e) (fun h => ct_cn0_0_1 e h)
theorem ct_cn0_1_0 : ∀ e ∈ am_cnT_1_0, ct_Cn 1 e.1 e.2 := List.forall_mem_cons.mpr ⟨Or.inl ⟨_, rfl, q3067⟩, List.forall_mem_cons.mpr ⟨Or.inr (Or.inl ⟨_, rfl, q3068⟩), List.forall_mem_cons.mpr ⟨Or.inr (Or.inl ⟨_, rfl, q3069⟩), List.forall_mem_cons.mpr ⟨Or.inl ⟨_, rfl, q2487⟩, List.forall_mem_cons.mpr ⟨Or.inl ⟨_, rfl, q2488⟩, List.forall_mem_cons.mpr ⟨Or.inl ⟨_, rfl, q2489⟩, fun _ h => absurd h List.not_mem_nil⟩⟩⟩⟩⟩⟩
theorem ct_cn0_1 : ∀ e ∈ am_cnT_1, ct_Cn 1 e.1 e.2 := fun e h => ct_cn0_1_0 e h
theorem ct_cn0_2_0 : ∀ e ∈ am_cnT_2_0, ct_Cn 2 e.1 e.2 := List.forall_mem_cons.mpr ⟨Or.inr (Or.inr ⟨_, rfl, ⟨_, q330⟩, by decide, by decide, by decide⟩), List.forall_mem_cons.mpr ⟨Or.inr (Or.inr ⟨_, rfl, ⟨_, q331⟩, by decide, by decide, by decide⟩), List.forall_mem_cons.mpr ⟨Or.inr (Or.inr ⟨_, rfl, ⟨_, q332⟩, by decide, by decide, by decide⟩), List.forall_mem_cons.mpr ⟨Or.inr (Or.inr ⟨_, rfl, ⟨_, q333⟩, by decide, by decide, by decide⟩), List.forall_mem_cons.mpr ⟨Or.inr (Or.inr ⟨_, rfl, ⟨_, q334⟩, by decide, by decide, by decide⟩), List.forall_mem_cons.mpr ⟨Or.inr (Or.inr ⟨_, rfl, ⟨_, q335⟩, by decide, by decide, by decide⟩), List.forall_mem_cons.mpr ⟨Or.inr (Or.inr ⟨_, rfl, ⟨_, q336⟩, by decide, by decide, by decide⟩), List.forall_mem_cons.mpr ⟨Or.inr (Or.inr ⟨_, rfl, ⟨_, q337⟩, by decide, by decide, by decide⟩), List.forall_mem_cons.mpr ⟨Or.inr (Or.inr ⟨_, rfl, ⟨_, q338⟩, by decide, by decide, by decide⟩), List.forall_mem_cons.mpr ⟨Or.inr (Or.inr ⟨_, rfl, ⟨_, q339⟩, by decide, by decide, by decide⟩), List.forall_mem_cons.mpr ⟨Or.inr (Or.inr ⟨_, rfl, ⟨_, q340⟩, by decide, by decide, by decide⟩), List.forall_mem_cons.mpr ⟨Or.inr (Or.inr ⟨_, rfl, ⟨_, q341⟩, by decide, by decide, by decide⟩), List.forall_mem_cons.mpr ⟨Or.inr (Or.inr ⟨_, rfl, ⟨_, q342⟩, by decide, by decide, by decide⟩), List.forall_mem_cons.mpr ⟨Or.inr (Or.inr ⟨_, rfl, ⟨_, q343⟩, by decide, by decide, by decide⟩), List.forall_mem_cons.mpr ⟨Or.inr (Or.inr ⟨_, rfl, ⟨_, q344⟩, by decide, by decide, by decide⟩), List.forall_mem_cons.mpr ⟨Or.inr (Or.inr ⟨_, rfl, ⟨_, q345⟩, by decide, by decide, by decide⟩), List.forall_mem_cons.mpr ⟨Or.inr (Or.inr ⟨_, rfl, ⟨_, q346⟩, by decide, by decide, by decide⟩), List.forall_mem_cons.mpr ⟨Or.inr (Or.inr ⟨_, rfl, ⟨_, q347⟩, by decide, by decide, by decide⟩), List.forall_mem_cons.mpr ⟨Or.inr (Or.inr ⟨_, rfl, ⟨_, q348⟩, by decide, by decide, by decide⟩), List.forall_mem_cons.mpr ⟨Or.inr (Or.inr ⟨_, rfl, ⟨_, q349⟩, by decide, by decide, by decide⟩), List.forall_mem_cons.mpr ⟨Or.inr (Or.inr ⟨_, rfl, ⟨_, q350⟩, by decide, by decide, by decide⟩), List.forall_mem_cons.mpr ⟨Or.inr (Or.inr ⟨_, rfl, ⟨_, q351⟩, by decide, by decide, by decide⟩), List.forall_mem_cons.mpr ⟨Or.inr (Or.inr ⟨_, rfl, ⟨_, q352⟩, by decide, by decide, by decide⟩), List.forall_mem_cons.mpr ⟨Or.inr (Or.inr ⟨_, rfl, ⟨_, q353⟩, by decide, by decide, by decide⟩), List.forall_mem_cons.mpr ⟨Or.inr (Or.inr ⟨_, rfl, ⟨_, q354⟩, by decide, by decide, by decide⟩), List.forall_mem_cons.mpr ⟨Or.inr (Or.inr ⟨_, rfl, ⟨_, q355⟩, by decide, by decide, by decide⟩), List.forall_mem_cons.mpr ⟨Or.inr (Or.inr ⟨_, rfl, ⟨_, q356⟩, by decide, by decide, by decide⟩), List.forall_mem_cons.mpr ⟨Or.inr (Or.inr ⟨_, rfl, ⟨_, q357⟩, by decide, by decide, by decide⟩), List.forall_mem_cons.mpr ⟨Or.inr (Or.inr ⟨_, rfl, ⟨_, q358⟩, by decide, by decide, by decide⟩), List.forall_mem_cons.mpr ⟨Or.inr (Or.inr ⟨_, rfl, ⟨_, q359⟩, by decide, by decide, by decide⟩), List.forall_mem_cons.mpr ⟨Or.inr (Or.inr ⟨_, rfl, ⟨_, q360⟩, by decide, by decide, by decide⟩), List.forall_mem_cons.mpr ⟨Or.inr (Or.inr ⟨_, rfl, ⟨_, q361⟩, by decide, by decide, by decide⟩), List.forall_mem_cons.mpr ⟨Or.inr (Or.inr ⟨_, rfl, ⟨_, q362⟩, by decide, by decide, by decide⟩), List.forall_mem_cons.mpr ⟨Or.inr (Or.inr ⟨_, rfl, ⟨_, q363⟩, by decide, by decide, by decide⟩), List.forall_mem_cons.mpr ⟨Or.inr (Or.inr ⟨_, rfl, ⟨_, q364⟩, by decide, by decide, by decide⟩), List.forall_mem_cons.mpr ⟨Or.inr (Or.inr ⟨_, rfl, ⟨_, q365⟩, by decide, by decide, by decide⟩), List.forall_mem_cons.mpr ⟨Or.inr (Or.inr ⟨_, rfl, ⟨_, q366⟩, by decide, by decide, by decide⟩), List.forall_mem_cons.mpr ⟨Or.inr (Or.inr ⟨_, rfl, ⟨_, q367⟩, by decide, by decide, by decide⟩), List.forall_mem_cons.mpr ⟨Or.inr (Or.inr ⟨_, rfl, ⟨_, q368⟩, by decide, by decide, by decide⟩), List.forall_mem_cons.mpr ⟨Or.inr (Or.inr ⟨_, rfl, ⟨_, q369⟩, by decide, by decide, by decide⟩), fun _ h => absurd h List.not_mem_nil⟩⟩⟩⟩⟩⟩⟩⟩⟩⟩⟩⟩⟩⟩⟩⟩⟩⟩⟩⟩⟩⟩⟩⟩⟩⟩⟩⟩⟩⟩⟩⟩⟩⟩⟩⟩⟩⟩⟩⟩
theorem ct_cn0_2_1 : ∀ e ∈ am_cnT_2_1, ct_Cn 2 e.1 e.2 := List.forall_mem_cons.mpr ⟨Or.inr (Or.inr ⟨_, rfl, ⟨_, q370⟩, by decide, by decide, by decide⟩), fun _ h => absurd h List.not_mem_nil⟩
theorem ct_cn0_2 : ∀ e ∈ am_cnT_2, ct_Cn 2 e.1 e.2 := fun e h => (List.mem_append.mp h).elim (ct_cn0_2_0 e) (fun h => ct_cn0_2_1 e h)
theorem ct_cn0_5_0 : ∀ e ∈ am_cnT_5_0, ct_Cn 5 e.1 e.2 := List.forall_mem_cons.mpr ⟨Or.inr (Or.inl ⟨_, rfl, q2857⟩), List.forall_mem_cons.mpr ⟨Or.inr (Or.inl ⟨_, rfl, q2858⟩), List.forall_mem_cons.mpr ⟨Or.inr (Or.inr ⟨_, rfl, ⟨_, q2870⟩, by decide, by decide, by decide⟩), fun _ h => absurd h List.not_mem_nil⟩⟩⟩
theorem ct_cn0_5 : ∀ e ∈ am_cnT_5, ct_Cn 5 e.1 e.2 := fun e h => ct_cn0_5_0 e h
theorem ct_cn0_8_0 : ∀ e ∈ am_cnT_8_0, ct_Cn 8 e.1 e.2 := List.forall_mem_cons.mpr ⟨Or.inr (Or.inr ⟨_, rfl, ⟨_, q651⟩, by decide, by decide, by decide⟩), List.forall_mem_cons.mpr ⟨Or.inr (Or.inr ⟨_, rfl, ⟨_, q652⟩, by decide, by decide, by decide⟩), List.forall_mem_cons.mpr ⟨Or.inr (Or.inr ⟨_, rfl, ⟨_, q653⟩, by decide, by decide, by decide⟩), List.forall_mem_cons.mpr ⟨Or.inr (Or.inr ⟨_, rfl, ⟨_, q654⟩, by decide, by decide, by decide⟩), List.forall_mem_cons.mpr ⟨Or.inr (Or.inr ⟨_, rfl, ⟨_, q655⟩, by decide, by decide, by decide⟩), List.forall_mem_cons.mpr ⟨Or.inr (Or.inr ⟨_, rfl, ⟨_, q656⟩, by decide, by decide, by decide⟩), List.forall_mem_cons.mpr ⟨Or.inr (Or.inr ⟨_, rfl, ⟨_, q657⟩, by decide, by decide, by decide⟩), List.forall_mem_cons.mpr ⟨Or.inr (Or.inr ⟨_, rfl, ⟨_, q658⟩, by decide, by decide, by decide⟩), List.forall_mem_cons.mpr ⟨Or.inr (Or.inr ⟨_, rfl, ⟨_, q659⟩, by decide, by decide, by decide⟩), List.forall_mem_cons.mpr ⟨Or.inr (Or.inr ⟨_, rfl, ⟨_, q660⟩, by decide, by decide, by decide⟩), List.forall_mem_cons.mpr ⟨Or.inr (Or.inr ⟨_, rfl, ⟨_, q661⟩, by decide, by decide, by decide⟩), List.forall_mem_cons.mpr ⟨Or.inr (Or.inr ⟨_, rfl, ⟨_, q662⟩, by decide, by decide, by decide⟩), List.forall_mem_cons.mpr ⟨Or.inr (Or.inr ⟨_, rfl, ⟨_, q663⟩, by decide, by decide, by decide⟩), List.forall_mem_cons.mpr ⟨Or.inr (Or.inr ⟨_, rfl, ⟨_, q664⟩, by decide, by decide, by decide⟩), List.forall_mem_cons.mpr ⟨Or.inr (Or.inr ⟨_, rfl, ⟨_, q665⟩, by decide, by decide, by decide⟩), List.forall_mem_cons.mpr ⟨Or.inr (Or.inr ⟨_, rfl, ⟨_, q666⟩, by decide, by decide, by decide⟩), List.forall_mem_cons.mpr ⟨Or.inr (Or.inr ⟨_, rfl, ⟨_, q667⟩, by decide, by decide, by decide⟩), List.forall_mem_cons.mpr ⟨Or.inr (Or.inr ⟨_, rfl, ⟨_, q668⟩, by decide, by decide, by decide⟩), List.forall_mem_cons.mpr ⟨Or.inr (Or.inr ⟨_, rfl, ⟨_, q669⟩, by decide, by decide, by decide⟩), List.forall_mem_cons.mpr ⟨Or.inr (Or.inr ⟨_, rfl, ⟨_, q670⟩, by decide, by decide, by decide⟩), List.forall_mem_cons.mpr ⟨Or.inr (Or.inr ⟨_, rfl, ⟨_, q671⟩, by decide, by decide, by decide⟩), List.forall_mem_cons.mpr ⟨Or.inr (Or.inr ⟨_, rfl, ⟨_, q672⟩, by decide, by decide, by decide⟩), List.forall_mem_cons.mpr ⟨Or.inr (Or.inr ⟨_, rfl, ⟨_, q673⟩, by decide, by decide, by decide⟩), List.forall_mem_cons.mpr ⟨Or.inl ⟨_, rfl, q1488⟩, List.forall_mem_cons.mpr ⟨Or.inr (Or.inr ⟨_, rfl, ⟨_, q1489⟩, by decide, by decide, by decide⟩), List.forall_mem_cons.mpr ⟨Or.inr (Or.inr ⟨_, rfl, ⟨_, q1620⟩, by decide, by decide, by decide⟩), List.forall_mem_cons.mpr ⟨Or.inr (Or.inr ⟨_, rfl, ⟨_, q1621⟩, by decide, by decide, by decide⟩), List.forall_mem_cons.mpr ⟨Or.inr (Or.inr ⟨_, rfl, ⟨_, q1622⟩, by decide, by decide, by decide⟩), List.forall_mem_cons.mpr ⟨Or.inr (Or.inr ⟨_, rfl, ⟨_, q1623⟩, by decide, by decide, by decide⟩), List.forall_mem_cons.mpr ⟨Or.inr (Or.inr ⟨_, rfl, ⟨_, q1624⟩, by decide, by decide, by decide⟩), List.forall_mem_cons.mpr ⟨Or.inr (Or.inr ⟨_, rfl, ⟨_, q1625⟩, by decide, by decide, by decide⟩), List.forall_mem_cons.mpr ⟨Or.inr (Or.inr ⟨_, rfl, ⟨_, q1626⟩, by decide, by decide, by decide⟩), List.forall_mem_cons.mpr ⟨Or.inr (Or.inr ⟨_, rfl, ⟨_, q1627⟩, by decide, by decide, by decide⟩), List.forall_mem_cons.mpr ⟨Or.inr (Or.inr ⟨_, rfl, ⟨_, q1628⟩, by decide, by decide, by decide⟩), List.forall_mem_cons.mpr ⟨Or.inr (Or.inr ⟨_, rfl, ⟨_, q1633⟩, by decide, by decide, by decide⟩), List.forall_mem_cons.mpr ⟨Or.inr (Or.inr ⟨_, rfl, ⟨_, q1634⟩, by decide, by decide, by decide⟩), List.forall_mem_cons.mpr ⟨Or.inr (Or.inr ⟨_, rfl, ⟨_, q1635⟩, by decide, by decide, by decide⟩), List.forall_mem_cons.mpr ⟨Or.inr (Or.inr ⟨_, rfl, ⟨_, q1636⟩, by decide, by decide, by decide⟩), List.forall_mem_cons.mpr ⟨Or.inr (Or.inl ⟨_, rfl, q2201⟩), List.forall_mem_cons.mpr ⟨Or.inl ⟨_, rfl, q2261⟩, fun _ h => absurd h List.not_mem_nil⟩⟩⟩⟩⟩⟩⟩⟩⟩⟩⟩⟩⟩⟩⟩⟩⟩⟩⟩⟩⟩⟩⟩⟩⟩⟩⟩⟩⟩⟩⟩⟩⟩⟩⟩⟩⟩⟩⟩⟩
theorem ct_cn0_8_1 : ∀ e ∈ am_cnT_8_1, ct_Cn 8 e.1 e.2 := List.forall_mem_cons.mpr ⟨Or.inr (Or.inl ⟨_, rfl, q2145⟩), List.forall_mem_cons.mpr ⟨Or.inr (Or.inl ⟨_, rfl, q2144⟩), List.forall_mem_cons.mpr ⟨Or.inr (Or.inl ⟨_, rfl, q1928⟩), List.forall_mem_cons.mpr ⟨Or.inl ⟨_, rfl, q2000⟩, List.forall_mem_cons.mpr ⟨Or.inl ⟨_, rfl, q2454⟩, fun _ h => absurd h List.not_mem_nil⟩⟩⟩⟩⟩
theorem ct_cn0_8 : ∀ e ∈ am_cnT_8, ct_Cn 8 e.1 e.2 := fun e h => (List.mem_append.mp h).elim (ct_cn0_8_0 e) (fun h => ct_cn0_8_1 e h)
theorem ct_cn0_10_0 : ∀ e ∈ am_cnT_10_0, ct_Cn 10 e.1 e.2 := List.forall_mem_cons.mpr ⟨Or.inl ⟨_, rfl, q639⟩, List.forall_mem_cons.mpr ⟨Or.inl ⟨_, rfl, q1785⟩, fun _ h => absurd h List.not_mem_nil⟩⟩
theorem ct_cn0_10 : ∀ e ∈ am_cnT_10, ct_Cn 10 e.1 e.2 := fun e h => ct_cn0_10_0 e h
theorem ct_cn0_11_0 : ∀ e ∈ am_cnT_11_0, ct_Cn 11 e.1 e.2 := List.forall_mem_cons.mpr ⟨Or.inr (Or.inr ⟨_, rfl, ⟨_, q838⟩, by decide, by decide, by decide⟩), List.forall_mem_cons.mpr ⟨Or.inr (Or.inr ⟨_, rfl, ⟨_, q839⟩, by decide, by decide, by decide⟩), List.forall_mem_cons.mpr ⟨Or.inr (Or.inr ⟨_, rfl, ⟨_, q840⟩, by decide, by decide, by decide⟩), List.forall_mem_cons.mpr ⟨Or.inr (Or.inr ⟨_, rfl, ⟨_, q841⟩, by decide, by decide, by decide⟩), List.forall_mem_cons.mpr ⟨Or.inr (Or.inr ⟨_, rfl, ⟨_, q842⟩, by decide, by decide, by decide⟩), List.forall_mem_cons.mpr ⟨Or.inr (Or.inr ⟨_, rfl, ⟨_, q843⟩, by decide, by decide, by decide⟩), List.forall_mem_cons.mpr ⟨Or.inr (Or.inr ⟨_, rfl, ⟨_, q844⟩, by decide, by decide, by decide⟩), List.forall_mem_cons.mpr ⟨Or.inr (Or.inr ⟨_, rfl, ⟨_, q845⟩, by decide, by decide, by decide⟩), List.forall_mem_cons.mpr ⟨Or.inr (Or.inr ⟨_, rfl, ⟨_, q846⟩, by decide, by decide, by decide⟩), List.forall_mem_cons.mpr ⟨Or.inr (Or.inr ⟨_, rfl, ⟨_, q847⟩, by decide, by decide, by decide⟩), List.forall_mem_cons.mpr ⟨Or.inr (Or.inr ⟨_, rfl, ⟨_, q848⟩, by decide, by decide, by decide⟩), List.forall_mem_cons.mpr ⟨Or.inr (Or.inr ⟨_, rfl, ⟨_, q849⟩, by decide, by decide, by decide⟩), List.forall_mem_cons.mpr ⟨Or.inr (Or.inr ⟨_, rfl, ⟨_, q850⟩, by decide, by decide, by decide⟩), List.forall_mem_cons.mpr ⟨Or.inr (Or.inr ⟨_, rfl, ⟨_, q851⟩, by decide, by decide, by decide⟩), List.forall_mem_cons.mpr ⟨Or.inr (Or.inr ⟨_, rfl, ⟨_, q852⟩, by decide, by decide, by decide⟩), List.forall_mem_cons.mpr ⟨Or.inr (Or.inr ⟨_, rfl, ⟨_, q853⟩, by decide, by decide, by decide⟩), List.forall_mem_cons.mpr ⟨Or.inr (Or.inr ⟨_, rfl, ⟨_, q854⟩, by decide, by decide, by decide⟩), List.forall_mem_cons.mpr ⟨Or.inr (Or.inr ⟨_, rfl, ⟨_, q855⟩, by decide, by decide, by decide⟩), List.forall_mem_cons.mpr ⟨Or.inr (Or.inr ⟨_, rfl, ⟨_, q856⟩, by decide, by decide, by decide⟩), List.forall_mem_cons.mpr ⟨Or.inr (Or.inr ⟨_, rfl, ⟨_, q857⟩, by decide, by decide, by decide⟩), List.forall_mem_cons.mpr ⟨Or.inr (Or.inr ⟨_, rfl, ⟨_, q858⟩, by decide, by decide, by decide⟩), List.forall_mem_cons.mpr ⟨Or.inr (Or.inr ⟨_, rfl, ⟨_, q859⟩, by decide, by decide, by decide⟩), List.forall_mem_cons.mpr ⟨Or.inr (Or.inr ⟨_, rfl, ⟨_, q860⟩, by decide, by decide, by decide⟩), List.forall_mem_cons.mpr ⟨Or.inr (Or.inr ⟨_, rfl, ⟨_, q861⟩, by decide, by decide, by decide⟩), List.forall_mem_cons.mpr ⟨Or.inr (Or.inr ⟨_, rfl, ⟨_, q862⟩, by decide, by decide, by decide⟩), List.forall_mem_cons.mpr ⟨Or.inr (Or.inr ⟨_, rfl, ⟨_, q863⟩, by decide, by decide, by decide⟩), List.forall_mem_cons.mpr ⟨Or.inr (Or.inr ⟨_, rfl, ⟨_, q864⟩, by decide, by decide, by decide⟩), List.forall_mem_cons.mpr ⟨Or.inr (Or.inr ⟨_, rfl, ⟨_, q865⟩, by decide, by decide, by decide⟩), List.forall_mem_cons.mpr ⟨Or.inr (Or.inr ⟨_, rfl, ⟨_, q866⟩, by decide, by decide, by decide⟩), List.forall_mem_cons.mpr ⟨Or.inr (Or.inr ⟨_, rfl, ⟨_, q867⟩, by decide, by decide, by decide⟩), List.forall_mem_cons.mpr ⟨Or.inr (Or.inr ⟨_, rfl, ⟨_, q868⟩, by decide, by decide, by decide⟩), List.forall_mem_cons.mpr ⟨Or.inr (Or.inr ⟨_, rfl, ⟨_, q869⟩, by decide, by decide, by decide⟩), List.forall_mem_cons.mpr ⟨Or.inr (Or.inr ⟨_, rfl, ⟨_, q870⟩, by decide, by decide, by decide⟩), List.forall_mem_cons.mpr ⟨Or.inr (Or.inr ⟨_, rfl, ⟨_, q871⟩, by decide, by decide, by decide⟩), List.forall_mem_cons.mpr ⟨Or.inr (Or.inr ⟨_, rfl, ⟨_, q872⟩, by decide, by decide, by decide⟩), List.forall_mem_cons.mpr ⟨Or.inr (Or.inr ⟨_, rfl, ⟨_, q873⟩, by decide, by decide, by decide⟩), List.forall_mem_cons.mpr ⟨Or.inr (Or.inr ⟨_, rfl, ⟨_, q874⟩, by decide, by decide, by decide⟩), List.forall_mem_cons.mpr ⟨Or.inr (Or.inr ⟨_, rfl, ⟨_, q875⟩, by decide, by decide, by decide⟩), List.forall_mem_cons.mpr ⟨Or.inr (Or.inr ⟨_, rfl, ⟨_, q876⟩, by decide, by decide, by decide⟩), List.forall_mem_cons.mpr ⟨Or.inr (Or.inr ⟨_, rfl, ⟨_, q877⟩, by decide, by decide, by decide⟩), fun _ h => absurd h List.not_mem_nil⟩⟩⟩⟩⟩⟩⟩⟩⟩⟩⟩⟩⟩⟩⟩⟩⟩⟩⟩⟩⟩⟩⟩⟩⟩⟩⟩⟩⟩⟩⟩⟩⟩⟩⟩⟩⟩⟩⟩⟩
theorem ct_cn0_11_1 : ∀ e ∈ am_cnT_11_1, ct_Cn 11 e.1 e.2 := List.forall_mem_cons.mpr ⟨Or.inr (Or.inr ⟨_, rfl, ⟨_, q878⟩, by decide, by decide, by decide⟩), List.forall_mem_cons.mpr ⟨Or.inr (Or.inr ⟨_, rfl, ⟨_, q879⟩, by decide, by decide, by decide⟩), List.forall_mem_cons.mpr ⟨Or.inr (Or.inr ⟨_, rfl, ⟨_, q880⟩, by decide, by decide, by decide⟩), List.forall_mem_cons.mpr ⟨Or.inr (Or.inr ⟨_, rfl, ⟨_, q881⟩, by decide, by decide, by decide⟩), List.forall_mem_cons.mpr ⟨Or.inr (Or.inr ⟨_, rfl, ⟨_, q882⟩, by decide, by decide, by decide⟩), List.forall_mem_cons.mpr ⟨Or.inr (Or.inr ⟨_, rfl, ⟨_, q883⟩, by decide, by decide, by decide⟩), List.forall_mem_cons.mpr ⟨Or.inr (Or.inr ⟨_, rfl, ⟨_, q884⟩, by decide, by decide, by decide⟩), List.forall_mem_cons.mpr ⟨Or.inr (Or.inr ⟨_, rfl, ⟨_, q885⟩, by decide, by decide, by decide⟩), List.forall_mem_cons.mpr ⟨Or.inr (Or.inr ⟨_, rfl, ⟨_, q886⟩, by decide, by decide, by decide⟩), List.forall_mem_cons.mpr ⟨Or.inr (Or.inr ⟨_, rfl, ⟨_, q887⟩, by decide, by decide, by decide⟩), List.forall_mem_cons.mpr ⟨Or.inr (Or.inr ⟨_, rfl, ⟨_, q888⟩, by decide, by decide, by decide⟩), List.forall_mem_cons.mpr ⟨Or.inr (Or.inr ⟨_, rfl, ⟨_, q889⟩, by decide, by decide, by decide⟩), List.forall_mem_cons.mpr ⟨Or.inr (Or.inr ⟨_, rfl, ⟨_, q890⟩, by decide, by decide, by decide⟩), List.forall_mem_cons.mpr ⟨Or.inr (Or.inr ⟨_, rfl, ⟨_, q891⟩, by decide, by decide, by decide⟩), List.forall_mem_cons.mpr ⟨Or.inr (Or.inr ⟨_, rfl, ⟨_, q892⟩, by decide, by decide, by decide⟩), List.forall_mem_cons.mpr ⟨Or.inr (Or.inr ⟨_, rfl, ⟨_, q893⟩, by decide, by decide, by decide⟩), List.forall_mem_cons.mpr ⟨Or.inr (Or.inr ⟨_, rfl, ⟨_, q894⟩, by decide, by decide, by decide⟩), List.forall_mem_cons.mpr ⟨Or.inr (Or.inr ⟨_, rfl, ⟨_, q895⟩, by decide, by decide, by decide⟩), List.forall_mem_cons.mpr ⟨Or.inr (Or.inr ⟨_, rfl, ⟨_, q896⟩, by decide, by decide, by decide⟩), List.forall_mem_cons.mpr ⟨Or.inr (Or.inr ⟨_, rfl, ⟨_, q897⟩, by decide, by decide, by decide⟩), List.forall_mem_cons.mpr ⟨Or.inr (Or.inr ⟨_, rfl, ⟨_, q898⟩, by decide, by decide, by decide⟩), fun _ h => absurd h List.not_mem_nil⟩⟩⟩⟩⟩⟩⟩⟩⟩⟩⟩⟩⟩⟩⟩⟩⟩⟩⟩⟩⟩
theorem ct_cn0_11 : ∀ e ∈ am_cnT_11, ct_Cn 11 e.1 e.2 := fun e h => (List.mem_append.mp h).elim (ct_cn0_11_0 e) (fun h => ct_cn0_11_1 e h)
theorem ct_cn0_12_0 : ∀ e ∈ am_cnT_12_0, ct_Cn 12 e.1 e.2 := List.forall_mem_cons.mpr ⟨Or.inl ⟨_, rfl, q1148⟩, List.forall_mem_cons.mpr ⟨Or.inl ⟨_, rfl, q2503⟩, List.forall_mem_cons.mpr ⟨Or.inl ⟨_, rfl, q2513⟩, List.forall_mem_cons.mpr ⟨Or.inl ⟨_, rfl, q2726⟩, fun _ h => absurd h List.not_mem_nil⟩⟩⟩⟩
theorem ct_cn0_12 : ∀ e ∈ am_cnT_12, ct_Cn 12 e.1 e.2 := fun e h => ct_cn0_12_0 e h
theorem ct_cn0_13_0 : ∀ e ∈ am_cnT_13_0, ct_Cn 13 e.1 e.2 := List.forall_mem_cons.mpr ⟨Or.inl ⟨_, rfl, q1108⟩, List.forall_mem_cons.mpr ⟨Or.inl ⟨_, rfl, q2512⟩, List.forall_mem_cons.mpr ⟨Or.inl ⟨_, rfl, q2763⟩, fun _ h => absurd h List.not_mem_nil⟩⟩⟩
theorem ct_cn0_13 : ∀ e ∈ am_cnT_13, ct_Cn 13 e.1 e.2 := fun e h => ct_cn0_13_0 e h
theorem ct_cn0_16_0 : ∀ e ∈ am_cnT_16_0, ct_Cn 16 e.1 e.2 := List.forall_mem_cons.mpr ⟨Or.inl ⟨_, rfl, q1487⟩, fun _ h => absurd h List.not_mem_nil⟩
theorem ct_cn0_16 : ∀ e ∈ am_cnT_16, ct_Cn 16 e.1 e.2 := fun e h => ct_cn0_16_0 e h
theorem ct_cn0_20_0 : ∀ e ∈ am_cnT_20_0, ct_Cn 20 e.1 e.2 := List.forall_mem_cons.mpr ⟨Or.inr (Or.inr ⟨_, rfl, ⟨_, q969⟩, by decide, by decide, by decide⟩), fun _ h => absurd h List.not_mem_nil⟩
theorem ct_cn0_20 : ∀ e ∈ am_cnT_20, ct_Cn 20 e.1 e.2 := fun e h => ct_cn0_20_0 e h
theorem ct_cn0_24_0 : ∀ e ∈ am_cnT_24_0, ct_Cn 24 e.1 e.2 := List.forall_mem_cons.mpr ⟨Or.inl ⟨_, rfl, q2582⟩, List.forall_mem_cons.mpr ⟨Or.inl ⟨_, rfl, q2583⟩, List.forall_mem_cons.mpr ⟨Or.inl ⟨_, rfl, q2584⟩, fun _ h => absurd h List.not_mem_nil⟩⟩⟩
theorem ct_cn0_24 : ∀ e ∈ am_cnT_24, ct_Cn 24 e.1 e.2 := fun e h => ct_cn0_24_0 e h
theorem ct_cn0 (own : Nat) : ∀ e ∈ am_cnL.getD own [], ct_Cn own e.1 e.2 := by
  match own with
  | 0 => exact ct_cn0_0
  | 1 => exact ct_cn0_1
  | 2 => exact ct_cn0_2
  | 3 => exact fun _ h => absurd h List.not_mem_nil
  | 4 => exact fun _ h => absurd h List.not_mem_nil
  | 5 => exact ct_cn0_5
  | 6 => exact fun _ h => absurd h List.not_mem_nil
  | 7 => exact fun _ h => absurd h List.not_mem_nil
  | 8 => exact ct_cn0_8
  | 9 => exact fun _ h => absurd h List.not_mem_nil
  | 10 => exact ct_cn0_10
  | 11 => exact ct_cn0_11
  | 12 => exact ct_cn0_12
  | 13 => exact ct_cn0_13
  | 14 => exact fun _ h => absurd h List.not_mem_nil
  | 15 => exact fun _ h => absurd h List.not_mem_nil
  | 16 => exact ct_cn0_16
  | 17 => exact fun _ h => absurd h List.not_mem_nil
  | 18 => exact fun _ h => absurd h List.not_mem_nil
  | 19 => exact fun _ h => absurd h List.not_mem_nil
  | 20 => exact ct_cn0_20
  | 21 => exact fun _ h => absurd h List.not_mem_nil
  | 22 => exact fun _ h => absurd h List.not_mem_nil
  | 23 => exact fun _ h => absurd h List.not_mem_nil
  | 24 => exact ct_cn0_24
  | 25 => exact fun _ h => absurd h List.not_mem_nil
  | 26 => exact fun _ h => absurd h List.not_mem_nil
  | 27 => exact fun _ h => absurd h List.not_mem_nil
  | 28 => exact fun _ h => absurd h List.not_mem_nil
  | n + 29 => exact fun _ h => absurd h (by simp [am_cnL])
theorem ct_cn {own x : Nat} {v : Value} (h : am_cn own x = some v) : ct_Cn own x v := ct_cn0 own _ (ct_lk h)
def ct_M (m : Nat) : Prop := plainName (am_y m).cls = true ∧ (am_y m).cls = am_nm (am_own m) ∧ ((am_y m).cls ≠ "java/lang/invoke/MethodHandle" ∧ (am_y m).cls ≠ "java/lang/invoke/VarHandle") ∧ am_mxl m ≤ 45 ∧ (parseMethodDescriptor (am_y m).desc).map (fun d => d.parameters.length) = some (am_ar m) ∧ (am_isI m = true → (am_y m).name = "<init>") ∧ Cond.initialized (am_y m).cls ∈ lw_all ∧
  (am_hh m = false ∧ Cond.code (am_y m) (am_code m) (am_mxl m) (am_rt m) ∈ lw_all ∨ am_hh m = true ∧ ∃ hh, Cond.codeWith (am_y m) (am_code m) (am_mxl m) (am_rt m) hh ∈ lw_all)
theorem ct_m_1 : ct_M 1 := ⟨by decide +kernel, rfl, ⟨by decide +kernel, by decide +kernel⟩, by decide, by decide +kernel, (fun h => by first | rfl | cases h), q284, Or.inl ⟨rfl, q2782⟩⟩
theorem ct_m_2 : ct_M 2 := ⟨by decide +kernel, rfl, ⟨by decide +kernel, by decide +kernel⟩, by decide, by decide +kernel, (fun h => by first | rfl | cases h), q284, Or.inl ⟨rfl, q2794⟩⟩
theorem ct_m_3 : ct_M 3 := ⟨by decide +kernel, rfl, ⟨by decide +kernel, by decide +kernel⟩, by decide, by decide +kernel, (fun h => by first | rfl | cases h), q284, Or.inl ⟨rfl, q3072⟩⟩
theorem ct_m_4 : ct_M 4 := ⟨by decide +kernel, rfl, ⟨by decide +kernel, by decide +kernel⟩, by decide, by decide +kernel, (fun h => by first | rfl | cases h), q284, Or.inl ⟨rfl, q3076⟩⟩
theorem ct_m_5 : ct_M 5 := ⟨by decide +kernel, rfl, ⟨by decide +kernel, by decide +kernel⟩, by decide, by decide +kernel, (fun h => by first | rfl | cases h), q284, Or.inl ⟨rfl, q3079⟩⟩
theorem ct_m_6 : ct_M 6 := ⟨by decide +kernel, rfl, ⟨by decide +kernel, by decide +kernel⟩, by decide, by decide +kernel, (fun h => by first | rfl | cases h), q284, Or.inl ⟨rfl, q3082⟩⟩
theorem ct_m_7 : ct_M 7 := ⟨by decide +kernel, rfl, ⟨by decide +kernel, by decide +kernel⟩, by decide, by decide +kernel, (fun h => by first | rfl | cases h), q284, Or.inl ⟨rfl, q3085⟩⟩
theorem ct_m_8 : ct_M 8 := ⟨by decide +kernel, rfl, ⟨by decide +kernel, by decide +kernel⟩, by decide, by decide +kernel, (fun h => by first | rfl | cases h), q284, Or.inl ⟨rfl, q3089⟩⟩
theorem ct_m_9 : ct_M 9 := ⟨by decide +kernel, rfl, ⟨by decide +kernel, by decide +kernel⟩, by decide, by decide +kernel, (fun h => by first | rfl | cases h), q284, Or.inl ⟨rfl, q3095⟩⟩
theorem ct_m_10 : ct_M 10 := ⟨by decide +kernel, rfl, ⟨by decide +kernel, by decide +kernel⟩, by decide, by decide +kernel, (fun h => by first | rfl | cases h), q284, Or.inl ⟨rfl, q3098⟩⟩
theorem ct_m_11 : ct_M 11 := ⟨by decide +kernel, rfl, ⟨by decide +kernel, by decide +kernel⟩, by decide, by decide +kernel, (fun h => by first | rfl | cases h), q284, Or.inl ⟨rfl, q3119⟩⟩
theorem ct_m_12 : ct_M 12 := ⟨by decide +kernel, rfl, ⟨by decide +kernel, by decide +kernel⟩, by decide, by decide +kernel, (fun h => by first | rfl | cases h), q284, Or.inl ⟨rfl, q3122⟩⟩
theorem ct_m_13 : ct_M 13 := ⟨by decide +kernel, rfl, ⟨by decide +kernel, by decide +kernel⟩, by decide, by decide +kernel, (fun h => by first | rfl | cases h), q284, Or.inl ⟨rfl, q3125⟩⟩
theorem ct_m_14 : ct_M 14 := ⟨by decide +kernel, rfl, ⟨by decide +kernel, by decide +kernel⟩, by decide, by decide +kernel, (fun h => by first | rfl | cases h), q284, Or.inl ⟨rfl, q3129⟩⟩
theorem ct_m_15 : ct_M 15 := ⟨by decide +kernel, rfl, ⟨by decide +kernel, by decide +kernel⟩, by decide, by decide +kernel, (fun h => by first | rfl | cases h), q284, Or.inl ⟨rfl, q3135⟩⟩
theorem ct_m_16 : ct_M 16 := ⟨by decide +kernel, rfl, ⟨by decide +kernel, by decide +kernel⟩, by decide, by decide +kernel, (fun h => by first | rfl | cases h), q284, Or.inl ⟨rfl, q3140⟩⟩
theorem ct_m_17 : ct_M 17 := ⟨by decide +kernel, rfl, ⟨by decide +kernel, by decide +kernel⟩, by decide, by decide +kernel, (fun h => by first | rfl | cases h), q285, Or.inl ⟨rfl, q318⟩⟩
theorem ct_m_18 : ct_M 18 := ⟨by decide +kernel, rfl, ⟨by decide +kernel, by decide +kernel⟩, by decide, by decide +kernel, (fun h => by first | rfl | cases h), q285, Or.inl ⟨rfl, q1314⟩⟩
theorem ct_m_19 : ct_M 19 := ⟨by decide +kernel, rfl, ⟨by decide +kernel, by decide +kernel⟩, by decide, by decide +kernel, (fun h => by first | rfl | cases h), q285, Or.inl ⟨rfl, q1318⟩⟩
theorem ct_m_20 : ct_M 20 := ⟨by decide +kernel, rfl, ⟨by decide +kernel, by decide +kernel⟩, by decide, by decide +kernel, (fun h => by first | rfl | cases h), q285, Or.inl ⟨rfl, q1322⟩⟩
theorem ct_m_21 : ct_M 21 := ⟨by decide +kernel, rfl, ⟨by decide +kernel, by decide +kernel⟩, by decide, by decide +kernel, (fun h => by first | rfl | cases h), q285, Or.inl ⟨rfl, q1333⟩⟩
theorem ct_m_22 : ct_M 22 := ⟨by decide +kernel, rfl, ⟨by decide +kernel, by decide +kernel⟩, by decide, by decide +kernel, (fun h => by first | rfl | cases h), q285, Or.inl ⟨rfl, q1354⟩⟩
theorem ct_m_23 : ct_M 23 := ⟨by decide +kernel, rfl, ⟨by decide +kernel, by decide +kernel⟩, by decide, by decide +kernel, (fun h => by first | rfl | cases h), q285, Or.inl ⟨rfl, q1358⟩⟩
theorem ct_m_24 : ct_M 24 := ⟨by decide +kernel, rfl, ⟨by decide +kernel, by decide +kernel⟩, by decide, by decide +kernel, (fun h => by first | rfl | cases h), q285, Or.inl ⟨rfl, q1496⟩⟩
theorem ct_m_25 : ct_M 25 := ⟨by decide +kernel, rfl, ⟨by decide +kernel, by decide +kernel⟩, by decide, by decide +kernel, (fun h => by first | rfl | cases h), q285, Or.inl ⟨rfl, q2493⟩⟩
theorem ct_m_26 : ct_M 26 := ⟨by decide +kernel, rfl, ⟨by decide +kernel, by decide +kernel⟩, by decide, by decide +kernel, (fun h => by first | rfl | cases h), q285, Or.inl ⟨rfl, q2497⟩⟩
theorem ct_m_27 : ct_M 27 := ⟨by decide +kernel, rfl, ⟨by decide +kernel, by decide +kernel⟩, by decide, by decide +kernel, (fun h => by first | rfl | cases h), q285, Or.inl ⟨rfl, q2517⟩⟩
theorem ct_m_28 : ct_M 28 := ⟨by decide +kernel, rfl, ⟨by decide +kernel, by decide +kernel⟩, by decide, by decide +kernel, (fun h => by first | rfl | cases h), q285, Or.inl ⟨rfl, q2771⟩⟩
theorem ct_m_29 : ct_M 29 := ⟨by decide +kernel, rfl, ⟨by decide +kernel, by decide +kernel⟩, by decide, by decide +kernel, (fun h => by first | rfl | cases h), q285, Or.inl ⟨rfl, q2775⟩⟩
theorem ct_m_30 : ct_M 30 := ⟨by decide +kernel, rfl, ⟨by decide +kernel, by decide +kernel⟩, by decide, by decide +kernel, (fun h => by first | rfl | cases h), q285, Or.inl ⟨rfl, q2787⟩⟩
theorem ct_m_31 : ct_M 31 := ⟨by decide +kernel, rfl, ⟨by decide +kernel, by decide +kernel⟩, by decide, by decide +kernel, (fun h => by first | rfl | cases h), q285, Or.inl ⟨rfl, q2791⟩⟩
theorem ct_m_32 : ct_M 32 := ⟨by decide +kernel, rfl, ⟨by decide +kernel, by decide +kernel⟩, by decide, by decide +kernel, (fun h => by first | rfl | cases h), q285, Or.inl ⟨rfl, q2798⟩⟩
theorem ct_m_33 : ct_M 33 := ⟨by decide +kernel, rfl, ⟨by decide +kernel, by decide +kernel⟩, by decide, by decide +kernel, (fun h => by first | rfl | cases h), q285, Or.inl ⟨rfl, q3030⟩⟩
theorem ct_m_34 : ct_M 34 := ⟨by decide +kernel, rfl, ⟨by decide +kernel, by decide +kernel⟩, by decide, by decide +kernel, (fun h => by first | rfl | cases h), q285, Or.inl ⟨rfl, q3065⟩⟩
theorem ct_m_35 : ct_M 35 := ⟨by decide +kernel, rfl, ⟨by decide +kernel, by decide +kernel⟩, by decide, by decide +kernel, (fun h => by first | rfl | cases h), q286, Or.inl ⟨rfl, q326⟩⟩
theorem ct_m_36 : ct_M 36 := ⟨by decide +kernel, rfl, ⟨by decide +kernel, by decide +kernel⟩, by decide, by decide +kernel, (fun h => by first | rfl | cases h), q286, Or.inl ⟨rfl, q2839⟩⟩
theorem ct_m_37 : ct_M 37 := ⟨by decide +kernel, rfl, ⟨by decide +kernel, by decide +kernel⟩, by decide, by decide +kernel, (fun h => by first | rfl | cases h), q286, Or.inl ⟨rfl, q2843⟩⟩
theorem ct_m_38 : ct_M 38 := ⟨by decide +kernel, rfl, ⟨by decide +kernel, by decide +kernel⟩, by decide, by decide +kernel, (fun h => by first | rfl | cases h), q287, Or.inl ⟨rfl, q380⟩⟩
theorem ct_m_39 : ct_M 39 := ⟨by decide +kernel, rfl, ⟨by decide +kernel, by decide +kernel⟩, by decide, by decide +kernel, (fun h => by first | rfl | cases h), q287, Or.inl ⟨rfl, q1330⟩⟩
theorem ct_m_40 : ct_M 40 := ⟨by decide +kernel, rfl, ⟨by decide +kernel, by decide +kernel⟩, by decide, by decide +kernel, (fun h => by first | rfl | cases h), q287, Or.inl ⟨rfl, q1345⟩⟩
theorem ct_m_41 : ct_M 41 := ⟨by decide +kernel, rfl, ⟨by decide +kernel, by decide +kernel⟩, by decide, by decide +kernel, (fun h => by first | rfl | cases h), q287, Or.inl ⟨rfl, q1382⟩⟩
theorem ct_m_42 : ct_M 42 := ⟨by decide +kernel, rfl, ⟨by decide +kernel, by decide +kernel⟩, by decide, by decide +kernel, (fun h => by first | rfl | cases h), q287, Or.inl ⟨rfl, q3052⟩⟩
theorem ct_m_43 : ct_M 43 := ⟨by decide +kernel, rfl, ⟨by decide +kernel, by decide +kernel⟩, by decide, by decide +kernel, (fun h => by first | rfl | cases h), q288, Or.inl ⟨rfl, q387⟩⟩
theorem ct_m_44 : ct_M 44 := ⟨by decide +kernel, rfl, ⟨by decide +kernel, by decide +kernel⟩, by decide, by decide +kernel, (fun h => by first | rfl | cases h), q288, Or.inl ⟨rfl, q1349⟩⟩
theorem ct_m_45 : ct_M 45 := ⟨by decide +kernel, rfl, ⟨by decide +kernel, by decide +kernel⟩, by decide, by decide +kernel, (fun h => by first | rfl | cases h), q288, Or.inl ⟨rfl, q3034⟩⟩
theorem ct_m_46 : ct_M 46 := ⟨by decide +kernel, rfl, ⟨by decide +kernel, by decide +kernel⟩, by decide, by decide +kernel, (fun h => by first | rfl | cases h), q288, Or.inl ⟨rfl, q3038⟩⟩
theorem ct_m_47 : ct_M 47 := ⟨by decide +kernel, rfl, ⟨by decide +kernel, by decide +kernel⟩, by decide, by decide +kernel, (fun h => by first | rfl | cases h), q288, Or.inl ⟨rfl, q3042⟩⟩
theorem ct_m_48 : ct_M 48 := ⟨by decide +kernel, rfl, ⟨by decide +kernel, by decide +kernel⟩, by decide, by decide +kernel, (fun h => by first | rfl | cases h), q289, Or.inl ⟨rfl, q393⟩⟩
theorem ct_m_49 : ct_M 49 := ⟨by decide +kernel, rfl, ⟨by decide +kernel, by decide +kernel⟩, by decide, by decide +kernel, (fun h => by first | rfl | cases h), q289, Or.inl ⟨rfl, q1501⟩⟩
theorem ct_m_50 : ct_M 50 := ⟨by decide +kernel, rfl, ⟨by decide +kernel, by decide +kernel⟩, by decide, by decide +kernel, (fun h => by first | rfl | cases h), q289, Or.inl ⟨rfl, q1504⟩⟩
theorem ct_m_51 : ct_M 51 := ⟨by decide +kernel, rfl, ⟨by decide +kernel, by decide +kernel⟩, by decide, by decide +kernel, (fun h => by first | rfl | cases h), q289, Or.inl ⟨rfl, q1797⟩⟩
theorem ct_m_52 : ct_M 52 := ⟨by decide +kernel, rfl, ⟨by decide +kernel, by decide +kernel⟩, by decide, by decide +kernel, (fun h => by first | rfl | cases h), q289, Or.inl ⟨rfl, q2802⟩⟩
theorem ct_m_53 : ct_M 53 := ⟨by decide +kernel, rfl, ⟨by decide +kernel, by decide +kernel⟩, by decide, by decide +kernel, (fun h => by first | rfl | cases h), q289, Or.inl ⟨rfl, q2806⟩⟩
theorem ct_m_54 : ct_M 54 := ⟨by decide +kernel, rfl, ⟨by decide +kernel, by decide +kernel⟩, by decide, by decide +kernel, (fun h => by first | rfl | cases h), q289, Or.inl ⟨rfl, q2810⟩⟩
theorem ct_m_55 : ct_M 55 := ⟨by decide +kernel, rfl, ⟨by decide +kernel, by decide +kernel⟩, by decide, by decide +kernel, (fun h => by first | rfl | cases h), q289, Or.inl ⟨rfl, q2819⟩⟩
theorem ct_m_56 : ct_M 56 := ⟨by decide +kernel, rfl, ⟨by decide +kernel, by decide +kernel⟩, by decide, by decide +kernel, (fun h => by first | rfl | cases h), q289, Or.inl ⟨rfl, q2822⟩⟩
theorem ct_m_57 : ct_M 57 := ⟨by decide +kernel, rfl, ⟨by decide +kernel, by decide +kernel⟩, by decide, by decide +kernel, (fun h => by first | rfl | cases h), q289, Or.inl ⟨rfl, q2826⟩⟩
theorem ct_m_58 : ct_M 58 := ⟨by decide +kernel, rfl, ⟨by decide +kernel, by decide +kernel⟩, by decide, by decide +kernel, (fun h => by first | rfl | cases h), q289, Or.inl ⟨rfl, q2835⟩⟩
theorem ct_m_59 : ct_M 59 := ⟨by decide +kernel, rfl, ⟨by decide +kernel, by decide +kernel⟩, by decide, by decide +kernel, (fun h => by first | rfl | cases h), q289, Or.inl ⟨rfl, q2849⟩⟩
theorem ct_m_60 : ct_M 60 := ⟨by decide +kernel, rfl, ⟨by decide +kernel, by decide +kernel⟩, by decide, by decide +kernel, (fun h => by first | rfl | cases h), q289, Or.inl ⟨rfl, q2852⟩⟩
theorem ct_m_61 : ct_M 61 := ⟨by decide +kernel, rfl, ⟨by decide +kernel, by decide +kernel⟩, by decide, by decide +kernel, (fun h => by first | rfl | cases h), q289, Or.inl ⟨rfl, q2856⟩⟩
theorem ct_m_62 : ct_M 62 := ⟨by decide +kernel, rfl, ⟨by decide +kernel, by decide +kernel⟩, by decide, by decide +kernel, (fun h => by first | rfl | cases h), q289, Or.inl ⟨rfl, q2866⟩⟩
theorem ct_m_63 : ct_M 63 := ⟨by decide +kernel, rfl, ⟨by decide +kernel, by decide +kernel⟩, by decide, by decide +kernel, (fun h => by first | rfl | cases h), q289, Or.inl ⟨rfl, q2869⟩⟩
theorem ct_m_64 : ct_M 64 := ⟨by decide +kernel, rfl, ⟨by decide +kernel, by decide +kernel⟩, by decide, by decide +kernel, (fun h => by first | rfl | cases h), q290, Or.inl ⟨rfl, q514⟩⟩
theorem ct_m_65 : ct_M 65 := ⟨by decide +kernel, rfl, ⟨by decide +kernel, by decide +kernel⟩, by decide, by decide +kernel, (fun h => by first | rfl | cases h), q290, Or.inr ⟨rfl, _, q2874⟩⟩
theorem ct_m_66 : ct_M 66 := ⟨by decide +kernel, rfl, ⟨by decide +kernel, by decide +kernel⟩, by decide, by decide +kernel, (fun h => by first | rfl | cases h), q290, Or.inl ⟨rfl, q2878⟩⟩
theorem ct_m_67 : ct_M 67 := ⟨by decide +kernel, rfl, ⟨by decide +kernel, by decide +kernel⟩, by decide, by decide +kernel, (fun h => by first | rfl | cases h), q290, Or.inl ⟨rfl, q2882⟩⟩
theorem ct_m_68 : ct_M 68 := ⟨by decide +kernel, rfl, ⟨by decide +kernel, by decide +kernel⟩, by decide, by decide +kernel, (fun h => by first | rfl | cases h), q290, Or.inl ⟨rfl, q2886⟩⟩
theorem ct_m_69 : ct_M 69 := ⟨by decide +kernel, rfl, ⟨by decide +kernel, by decide +kernel⟩, by decide, by decide +kernel, (fun h => by first | rfl | cases h), q290, Or.inl ⟨rfl, q2890⟩⟩
theorem ct_m_70 : ct_M 70 := ⟨by decide +kernel, rfl, ⟨by decide +kernel, by decide +kernel⟩, by decide, by decide +kernel, (fun h => by first | rfl | cases h), q290, Or.inl ⟨rfl, q2894⟩⟩
theorem ct_m_71 : ct_M 71 := ⟨by decide +kernel, rfl, ⟨by decide +kernel, by decide +kernel⟩, by decide, by decide +kernel, (fun h => by first | rfl | cases h), q290, Or.inl ⟨rfl, q2898⟩⟩
theorem ct_m_72 : ct_M 72 := ⟨by decide +kernel, rfl, ⟨by decide +kernel, by decide +kernel⟩, by decide, by decide +kernel, (fun h => by first | rfl | cases h), q290, Or.inl ⟨rfl, q2902⟩⟩
theorem ct_m_73 : ct_M 73 := ⟨by decide +kernel, rfl, ⟨by decide +kernel, by decide +kernel⟩, by decide, by decide +kernel, (fun h => by first | rfl | cases h), q290, Or.inl ⟨rfl, q2914⟩⟩
theorem ct_m_74 : ct_M 74 := ⟨by decide +kernel, rfl, ⟨by decide +kernel, by decide +kernel⟩, by decide, by decide +kernel, (fun h => by first | rfl | cases h), q290, Or.inl ⟨rfl, q2918⟩⟩
theorem ct_m_75 : ct_M 75 := ⟨by decide +kernel, rfl, ⟨by decide +kernel, by decide +kernel⟩, by decide, by decide +kernel, (fun h => by first | rfl | cases h), q290, Or.inl ⟨rfl, q2922⟩⟩
theorem ct_m_76 : ct_M 76 := ⟨by decide +kernel, rfl, ⟨by decide +kernel, by decide +kernel⟩, by decide, by decide +kernel, (fun h => by first | rfl | cases h), q290, Or.inl ⟨rfl, q2926⟩⟩
theorem ct_m_77 : ct_M 77 := ⟨by decide +kernel, rfl, ⟨by decide +kernel, by decide +kernel⟩, by decide, by decide +kernel, (fun h => by first | rfl | cases h), q290, Or.inl ⟨rfl, q2938⟩⟩
theorem ct_m_78 : ct_M 78 := ⟨by decide +kernel, rfl, ⟨by decide +kernel, by decide +kernel⟩, by decide, by decide +kernel, (fun h => by first | rfl | cases h), q290, Or.inl ⟨rfl, q2942⟩⟩
theorem ct_m_79 : ct_M 79 := ⟨by decide +kernel, rfl, ⟨by decide +kernel, by decide +kernel⟩, by decide, by decide +kernel, (fun h => by first | rfl | cases h), q290, Or.inl ⟨rfl, q2946⟩⟩
theorem ct_m_80 : ct_M 80 := ⟨by decide +kernel, rfl, ⟨by decide +kernel, by decide +kernel⟩, by decide, by decide +kernel, (fun h => by first | rfl | cases h), q290, Or.inl ⟨rfl, q2950⟩⟩
theorem ct_m_81 : ct_M 81 := ⟨by decide +kernel, rfl, ⟨by decide +kernel, by decide +kernel⟩, by decide, by decide +kernel, (fun h => by first | rfl | cases h), q290, Or.inl ⟨rfl, q2954⟩⟩
theorem ct_m_82 : ct_M 82 := ⟨by decide +kernel, rfl, ⟨by decide +kernel, by decide +kernel⟩, by decide, by decide +kernel, (fun h => by first | rfl | cases h), q290, Or.inl ⟨rfl, q2958⟩⟩
theorem ct_m_83 : ct_M 83 := ⟨by decide +kernel, rfl, ⟨by decide +kernel, by decide +kernel⟩, by decide, by decide +kernel, (fun h => by first | rfl | cases h), q290, Or.inl ⟨rfl, q2962⟩⟩
theorem ct_m_84 : ct_M 84 := ⟨by decide +kernel, rfl, ⟨by decide +kernel, by decide +kernel⟩, by decide, by decide +kernel, (fun h => by first | rfl | cases h), q290, Or.inl ⟨rfl, q2974⟩⟩
theorem ct_m_85 : ct_M 85 := ⟨by decide +kernel, rfl, ⟨by decide +kernel, by decide +kernel⟩, by decide, by decide +kernel, (fun h => by first | rfl | cases h), q290, Or.inl ⟨rfl, q2986⟩⟩
theorem ct_m_86 : ct_M 86 := ⟨by decide +kernel, rfl, ⟨by decide +kernel, by decide +kernel⟩, by decide, by decide +kernel, (fun h => by first | rfl | cases h), q290, Or.inl ⟨rfl, q2998⟩⟩
theorem ct_m_87 : ct_M 87 := ⟨by decide +kernel, rfl, ⟨by decide +kernel, by decide +kernel⟩, by decide, by decide +kernel, (fun h => by first | rfl | cases h), q290, Or.inl ⟨rfl, q3002⟩⟩
theorem ct_m_88 : ct_M 88 := ⟨by decide +kernel, rfl, ⟨by decide +kernel, by decide +kernel⟩, by decide, by decide +kernel, (fun h => by first | rfl | cases h), q290, Or.inl ⟨rfl, q3006⟩⟩
theorem ct_m_89 : ct_M 89 := ⟨by decide +kernel, rfl, ⟨by decide +kernel, by decide +kernel⟩, by decide, by decide +kernel, (fun h => by first | rfl | cases h), q290, Or.inl ⟨rfl, q3010⟩⟩
theorem ct_m_90 : ct_M 90 := ⟨by decide +kernel, rfl, ⟨by decide +kernel, by decide +kernel⟩, by decide, by decide +kernel, (fun h => by first | rfl | cases h), q290, Or.inl ⟨rfl, q3022⟩⟩
theorem ct_m_91 : ct_M 91 := ⟨by decide +kernel, rfl, ⟨by decide +kernel, by decide +kernel⟩, by decide, by decide +kernel, (fun h => by first | rfl | cases h), q290, Or.inl ⟨rfl, q3026⟩⟩
theorem ct_m_92 : ct_M 92 := ⟨by decide +kernel, rfl, ⟨by decide +kernel, by decide +kernel⟩, by decide, by decide +kernel, (fun h => by first | rfl | cases h), q294, Or.inl ⟨rfl, q557⟩⟩
theorem ct_m_93 : ct_M 93 := ⟨by decide +kernel, rfl, ⟨by decide +kernel, by decide +kernel⟩, by decide, by decide +kernel, (fun h => by first | rfl | cases h), q295, Or.inl ⟨rfl, q598⟩⟩
theorem ct_m_94 : ct_M 94 := ⟨by decide +kernel, rfl, ⟨by decide +kernel, by decide +kernel⟩, by decide, by decide +kernel, (fun h => by first | rfl | cases h), q295, Or.inr ⟨rfl, _, q1370⟩⟩
theorem ct_m_95 : ct_M 95 := ⟨by decide +kernel, rfl, ⟨by decide +kernel, by decide +kernel⟩, by decide, by decide +kernel, (fun h => by first | rfl | cases h), q295, Or.inl ⟨rfl, q1374⟩⟩
theorem ct_m_96 : ct_M 96 := ⟨by decide +kernel, rfl, ⟨by decide +kernel, by decide +kernel⟩, by decide, by decide +kernel, (fun h => by first | rfl | cases h), q295, Or.inl ⟨rfl, q1424⟩⟩
theorem ct_m_97 : ct_M 97 := ⟨by decide +kernel, rfl, ⟨by decide +kernel, by decide +kernel⟩, by decide, by decide +kernel, (fun h => by first | rfl | cases h), q295, Or.inl ⟨rfl, q1493⟩⟩
theorem ct_m_98 : ct_M 98 := ⟨by decide +kernel, rfl, ⟨by decide +kernel, by decide +kernel⟩, by decide, by decide +kernel, (fun h => by first | rfl | cases h), q295, Or.inl ⟨rfl, q1632⟩⟩
theorem ct_m_99 : ct_M 99 := ⟨by decide +kernel, rfl, ⟨by decide +kernel, by decide +kernel⟩, by decide, by decide +kernel, (fun h => by first | rfl | cases h), q295, Or.inl ⟨rfl, q1640⟩⟩
theorem ct_m_100 : ct_M 100 := ⟨by decide +kernel, rfl, ⟨by decide +kernel, by decide +kernel⟩, by decide, by decide +kernel, (fun h => by first | rfl | cases h), q295, Or.inl ⟨rfl, q1644⟩⟩
theorem ct_m_101 : ct_M 101 := ⟨by decide +kernel, rfl, ⟨by decide +kernel, by decide +kernel⟩, by decide, by decide +kernel, (fun h => by first | rfl | cases h), q295, Or.inl ⟨rfl, q1648⟩⟩
theorem ct_m_102 : ct_M 102 := ⟨by decide +kernel, rfl, ⟨by decide +kernel, by decide +kernel⟩, by decide, by decide +kernel, (fun h => by first | rfl | cases h), q295, Or.inl ⟨rfl, q1652⟩⟩
theorem ct_m_103 : ct_M 103 := ⟨by decide +kernel, rfl, ⟨by decide +kernel, by decide +kernel⟩, by decide, by decide +kernel, (fun h => by first | rfl | cases h), q295, Or.inl ⟨rfl, q1657⟩⟩
theorem ct_m_104 : ct_M 104 := ⟨by decide +kernel, rfl, ⟨by decide +kernel, by decide +kernel⟩, by decide, by decide +kernel, (fun h => by first | rfl | cases h), q295, Or.inl ⟨rfl, q1675⟩⟩
theorem ct_m_105 : ct_M 105 := ⟨by decide +kernel, rfl, ⟨by decide +kernel, by decide +kernel⟩, by decide, by decide +kernel, (fun h => by first | rfl | cases h), q295, Or.inl ⟨rfl, q1679⟩⟩
theorem ct_m_106 : ct_M 106 := ⟨by decide +kernel, rfl, ⟨by decide +kernel, by decide +kernel⟩, by decide, by decide +kernel, (fun h => by first | rfl | cases h), q295, Or.inl ⟨rfl, q1683⟩⟩
theorem ct_m_107 : ct_M 107 := ⟨by decide +kernel, rfl, ⟨by decide +kernel, by decide +kernel⟩, by decide, by decide +kernel, (fun h => by first | rfl | cases h), q295, Or.inl ⟨rfl, q1687⟩⟩
theorem ct_m_108 : ct_M 108 := ⟨by decide +kernel, rfl, ⟨by decide +kernel, by decide +kernel⟩, by decide, by decide +kernel, (fun h => by first | rfl | cases h), q295, Or.inl ⟨rfl, q1691⟩⟩
theorem ct_m_109 : ct_M 109 := ⟨by decide +kernel, rfl, ⟨by decide +kernel, by decide +kernel⟩, by decide, by decide +kernel, (fun h => by first | rfl | cases h), q295, Or.inl ⟨rfl, q1704⟩⟩
theorem ct_m_110 : ct_M 110 := ⟨by decide +kernel, rfl, ⟨by decide +kernel, by decide +kernel⟩, by decide, by decide +kernel, (fun h => by first | rfl | cases h), q295, Or.inl ⟨rfl, q1708⟩⟩
theorem ct_m_111 : ct_M 111 := ⟨by decide +kernel, rfl, ⟨by decide +kernel, by decide +kernel⟩, by decide, by decide +kernel, (fun h => by first | rfl | cases h), q295, Or.inl ⟨rfl, q1720⟩⟩
theorem ct_m_112 : ct_M 112 := ⟨by decide +kernel, rfl, ⟨by decide +kernel, by decide +kernel⟩, by decide, by decide +kernel, (fun h => by first | rfl | cases h), q295, Or.inl ⟨rfl, q1724⟩⟩
theorem ct_m_113 : ct_M 113 := ⟨by decide +kernel, rfl, ⟨by decide +kernel, by decide +kernel⟩, by decide, by decide +kernel, (fun h => by first | rfl | cases h), q295, Or.inl ⟨rfl, q1728⟩⟩
theorem ct_m_114 : ct_M 114 := ⟨by decide +kernel, rfl, ⟨by decide +kernel, by decide +kernel⟩, by decide, by decide +kernel, (fun h => by first | rfl | cases h), q295, Or.inl ⟨rfl, q1732⟩⟩
theorem ct_m_115 : ct_M 115 := ⟨by decide +kernel, rfl, ⟨by decide +kernel, by decide +kernel⟩, by decide, by decide +kernel, (fun h => by first | rfl | cases h), q295, Or.inl ⟨rfl, q1736⟩⟩
theorem ct_m_116 : ct_M 116 := ⟨by decide +kernel, rfl, ⟨by decide +kernel, by decide +kernel⟩, by decide, by decide +kernel, (fun h => by first | rfl | cases h), q295, Or.inl ⟨rfl, q1740⟩⟩
theorem ct_m_117 : ct_M 117 := ⟨by decide +kernel, rfl, ⟨by decide +kernel, by decide +kernel⟩, by decide, by decide +kernel, (fun h => by first | rfl | cases h), q295, Or.inl ⟨rfl, q1744⟩⟩
theorem ct_m_118 : ct_M 118 := ⟨by decide +kernel, rfl, ⟨by decide +kernel, by decide +kernel⟩, by decide, by decide +kernel, (fun h => by first | rfl | cases h), q295, Or.inl ⟨rfl, q1780⟩⟩
theorem ct_m_119 : ct_M 119 := ⟨by decide +kernel, rfl, ⟨by decide +kernel, by decide +kernel⟩, by decide, by decide +kernel, (fun h => by first | rfl | cases h), q295, Or.inl ⟨rfl, q1793⟩⟩
theorem ct_m_120 : ct_M 120 := ⟨by decide +kernel, rfl, ⟨by decide +kernel, by decide +kernel⟩, by decide, by decide +kernel, (fun h => by first | rfl | cases h), q295, Or.inl ⟨rfl, q1816⟩⟩
theorem ct_m_121 : ct_M 121 := ⟨by decide +kernel, rfl, ⟨by decide +kernel, by decide +kernel⟩, by decide, by decide +kernel, (fun h => by first | rfl | cases h), q295, Or.inl ⟨rfl, q1829⟩⟩
theorem ct_m_122 : ct_M 122 := ⟨by decide +kernel, rfl, ⟨by decide +kernel, by decide +kernel⟩, by decide, by decide +kernel, (fun h => by first | rfl | cases h), q295, Or.inl ⟨rfl, q1846⟩⟩
theorem ct_m_123 : ct_M 123 := ⟨by decide +kernel, rfl, ⟨by decide +kernel, by decide +kernel⟩, by decide, by decide +kernel, (fun h => by first | rfl | cases h), q295, Or.inl ⟨rfl, q1855⟩⟩
theorem ct_m_124 : ct_M 124 := ⟨by decide +kernel, rfl, ⟨by decide +kernel, by decide +kernel⟩, by decide, by decide +kernel, (fun h => by first | rfl | cases h), q295, Or.inl ⟨rfl, q1860⟩⟩
theorem ct_m_125 : ct_M 125 := ⟨by decide +kernel, rfl, ⟨by decide +kernel, by decide +kernel⟩, by decide, by decide +kernel, (fun h => by first | rfl | cases h), q295, Or.inl ⟨rfl, q1872⟩⟩
theorem ct_m_126 : ct_M 126 := ⟨by decide +kernel, rfl, ⟨by decide +kernel, by decide +kernel⟩, by decide, by decide +kernel, (fun h => by first | rfl | cases h), q295, Or.inl ⟨rfl, q1876⟩⟩
theorem ct_m_127 : ct_M 127 := ⟨by decide +kernel, rfl, ⟨by decide +kernel, by decide +kernel⟩, by decide, by decide +kernel, (fun h => by first | rfl | cases h), q295, Or.inl ⟨rfl, q1880⟩⟩
theorem ct_m_128 : ct_M 128 := ⟨by decide +kernel, rfl, ⟨by decide +kernel, by decide +kernel⟩, by decide, by decide +kernel, (fun h => by first | rfl | cases h), q295, Or.inl ⟨rfl, q1892⟩⟩
theorem ct_m_129 : ct_M 129 := ⟨by decide +kernel, rfl, ⟨by decide +kernel, by decide +kernel⟩, by decide, by decide +kernel, (fun h => by first | rfl | cases h), q295, Or.inl ⟨rfl, q1896⟩⟩
theorem ct_m_130 : ct_M 130 := ⟨by decide +kernel, rfl, ⟨by decide +kernel, by decide +kernel⟩, by decide, by decide +kernel, (fun h => by first | rfl | cases h), q295, Or.inl ⟨rfl, q1900⟩⟩
theorem ct_m_131 : ct_M 131 := ⟨by decide +kernel, rfl, ⟨by decide +kernel, by decide +kernel⟩, by decide, by decide +kernel, (fun h => by first | rfl | cases h), q295, Or.inl ⟨rfl, q1919⟩⟩
theorem ct_m_132 : ct_M 132 := ⟨by decide +kernel, rfl, ⟨by decide +kernel, by decide +kernel⟩, by decide, by decide +kernel, (fun h => by first | rfl | cases h), q295, Or.inl ⟨rfl, q1940⟩⟩
theorem ct_m_133 : ct_M 133 := ⟨by decide +kernel, rfl, ⟨by decide +kernel, by decide +kernel⟩, by decide, by decide +kernel, (fun h => by first | rfl | cases h), q295, Or.inl ⟨rfl, q1961⟩⟩
theorem ct_m_134 : ct_M 134 := ⟨by decide +kernel, rfl, ⟨by decide +kernel, by decide +kernel⟩, by decide, by decide +kernel, (fun h => by first | rfl | cases h), q295, Or.inl ⟨rfl, q1965⟩⟩
theorem ct_m_135 : ct_M 135 := ⟨by decide +kernel, rfl, ⟨by decide +kernel, by decide +kernel⟩, by decide, by decide +kernel, (fun h => by first | rfl | cases h), q295, Or.inl ⟨rfl, q1988⟩⟩
theorem ct_m_136 : ct_M 136 := ⟨by decide +kernel, rfl, ⟨by decide +kernel, by decide +kernel⟩, by decide, by decide +kernel, (fun h => by first | rfl | cases h), q295, Or.inl ⟨rfl, q1991⟩⟩
theorem ct_m_137 : ct_M 137 := ⟨by decide +kernel, rfl, ⟨by decide +kernel, by decide +kernel⟩, by decide, by decide +kernel, (fun h => by first | rfl | cases h), q295, Or.inl ⟨rfl, q1995⟩⟩
theorem ct_m_138 : ct_M 138 := ⟨by decide +kernel, rfl, ⟨by decide +kernel, by decide +kernel⟩, by decide, by decide +kernel, (fun h => by first | rfl | cases h), q295, Or.inl ⟨rfl, q1999⟩⟩
theorem ct_m_139 : ct_M 139 := ⟨by decide +kernel, rfl, ⟨by decide +kernel, by decide +kernel⟩, by decide, by decide +kernel, (fun h => by first | rfl | cases h), q295, Or.inl ⟨rfl, q2051⟩⟩
theorem ct_m_140 : ct_M 140 := ⟨by decide +kernel, rfl, ⟨by decide +kernel, by decide +kernel⟩, by decide, by decide +kernel, (fun h => by first | rfl | cases h), q295, Or.inl ⟨rfl, q2055⟩⟩
theorem ct_m_141 : ct_M 141 := ⟨by decide +kernel, rfl, ⟨by decide +kernel, by decide +kernel⟩, by decide, by decide +kernel, (fun h => by first | rfl | cases h), q295, Or.inl ⟨rfl, q2062⟩⟩
theorem ct_m_142 : ct_M 142 := ⟨by decide +kernel, rfl, ⟨by decide +kernel, by decide +kernel⟩, by decide, by decide +kernel, (fun h => by first | rfl | cases h), q295, Or.inl ⟨rfl, q2087⟩⟩
theorem ct_m_143 : ct_M 143 := ⟨by decide +kernel, rfl, ⟨by decide +kernel, by decide +kernel⟩, by decide, by decide +kernel, (fun h => by first | rfl | cases h), q295, Or.inl ⟨rfl, q2103⟩⟩
theorem ct_m_144 : ct_M 144 := ⟨by decide +kernel, rfl, ⟨by decide +kernel, by decide +kernel⟩, by decide, by decide +kernel, (fun h => by first | rfl | cases h), q295, Or.inl ⟨rfl, q2107⟩⟩
theorem ct_m_145 : ct_M 145 := ⟨by decide +kernel, rfl, ⟨by decide +kernel, by decide +kernel⟩, by decide, by decide +kernel, (fun h => by first | rfl | cases h), q295, Or.inl ⟨rfl, q2111⟩⟩
theorem ct_m_146 : ct_M 146 := ⟨by decide +kernel, rfl, ⟨by decide +kernel, by decide +kernel⟩, by decide, by decide +kernel, (fun h => by first | rfl | cases h), q295, Or.inl ⟨rfl, q2130⟩⟩
theorem ct_m_147 : ct_M 147 := ⟨by decide +kernel, rfl, ⟨by decide +kernel, by decide +kernel⟩, by decide, by decide +kernel, (fun h => by first | rfl | cases h), q295, Or.inl ⟨rfl, q2134⟩⟩
theorem ct_m_148 : ct_M 148 := ⟨by decide +kernel, rfl, ⟨by decide +kernel, by decide +kernel⟩, by decide, by decide +kernel, (fun h => by first | rfl | cases h), q295, Or.inl ⟨rfl, q2143⟩⟩
theorem ct_m_149 : ct_M 149 := ⟨by decide +kernel, rfl, ⟨by decide +kernel, by decide +kernel⟩, by decide, by decide +kernel, (fun h => by first | rfl | cases h), q295, Or.inl ⟨rfl, q2157⟩⟩
theorem ct_m_150 : ct_M 150 := ⟨by decide +kernel, rfl, ⟨by decide +kernel, by decide +kernel⟩, by decide, by decide +kernel, (fun h => by first | rfl | cases h), q295, Or.inl ⟨rfl, q2173⟩⟩
theorem ct_m_151 : ct_M 151 := ⟨by decide +kernel, rfl, ⟨by decide +kernel, by decide +kernel⟩, by decide, by decide +kernel, (fun h => by first | rfl | cases h), q295, Or.inl ⟨rfl, q2181⟩⟩
theorem ct_m_152 : ct_M 152 := ⟨by decide +kernel, rfl, ⟨by decide +kernel, by decide +kernel⟩, by decide, by decide +kernel, (fun h => by first | rfl | cases h), q295, Or.inl ⟨rfl, q2185⟩⟩
theorem ct_m_153 : ct_M 153 := ⟨by decide +kernel, rfl, ⟨by decide +kernel, by decide +kernel⟩, by decide, by decide +kernel, (fun h => by first | rfl | cases h), q295, Or.inl ⟨rfl, q2189⟩⟩
theorem ct_m_154 : ct_M 154 := ⟨by decide +kernel, rfl, ⟨by decide +kernel, by decide +kernel⟩, by decide, by decide +kernel, (fun h => by first | rfl | cases h), q295, Or.inl ⟨rfl, q2197⟩⟩
theorem ct_m_155 : ct_M 155 := ⟨by decide +kernel, rfl, ⟨by decide +kernel, by decide +kernel⟩, by decide, by decide +kernel, (fun h => by first | rfl | cases h), q295, Or.inl ⟨rfl, q2200⟩⟩
theorem ct_m_156 : ct_M 156 := ⟨by decide +kernel, rfl, ⟨by decide +kernel, by decide +kernel⟩, by decide, by decide +kernel, (fun h => by first | rfl | cases h), q295, Or.inl ⟨rfl, q2256⟩⟩
theorem ct_m_157 : ct_M 157 := ⟨by decide +kernel, rfl, ⟨by decide +kernel, by decide +kernel⟩, by decide, by decide +kernel, (fun h => by first | rfl | cases h), q295, Or.inl ⟨rfl, q2260⟩⟩
theorem ct_m_158 : ct_M 158 := ⟨by decide +kernel, rfl, ⟨by decide +kernel, by decide +kernel⟩, by decide, by decide +kernel, (fun h => by first | rfl | cases h), q295, Or.inl ⟨rfl, q2277⟩⟩
theorem ct_m_159 : ct_M 159 := ⟨by decide +kernel, rfl, ⟨by decide +kernel, by decide +kernel⟩, by decide, by decide +kernel, (fun h => by first | rfl | cases h), q295, Or.inl ⟨rfl, q2301⟩⟩
theorem ct_m_160 : ct_M 160 := ⟨by decide +kernel, rfl, ⟨by decide +kernel, by decide +kernel⟩, by decide, by decide +kernel, (fun h => by first | rfl | cases h), q295, Or.inl ⟨rfl, q2309⟩⟩
theorem ct_m_161 : ct_M 161 := ⟨by decide +kernel, rfl, ⟨by decide +kernel, by decide +kernel⟩, by decide, by decide +kernel, (fun h => by first | rfl | cases h), q295, Or.inl ⟨rfl, q2325⟩⟩
theorem ct_m_162 : ct_M 162 := ⟨by decide +kernel, rfl, ⟨by decide +kernel, by decide +kernel⟩, by decide, by decide +kernel, (fun h => by first | rfl | cases h), q295, Or.inl ⟨rfl, q2329⟩⟩
theorem ct_m_163 : ct_M 163 := ⟨by decide +kernel, rfl, ⟨by decide +kernel, by decide +kernel⟩, by decide, by decide +kernel, (fun h => by first | rfl | cases h), q295, Or.inl ⟨rfl, q2333⟩⟩
theorem ct_m_164 : ct_M 164 := ⟨by decide +kernel, rfl, ⟨by decide +kernel, by decide +kernel⟩, by decide, by decide +kernel, (fun h => by first | rfl | cases h), q295, Or.inl ⟨rfl, q2337⟩⟩
theorem ct_m_165 : ct_M 165 := ⟨by decide +kernel, rfl, ⟨by decide +kernel, by decide +kernel⟩, by decide, by decide +kernel, (fun h => by first | rfl | cases h), q295, Or.inl ⟨rfl, q2341⟩⟩
theorem ct_m_166 : ct_M 166 := ⟨by decide +kernel, rfl, ⟨by decide +kernel, by decide +kernel⟩, by decide, by decide +kernel, (fun h => by first | rfl | cases h), q295, Or.inl ⟨rfl, q2345⟩⟩
theorem ct_m_167 : ct_M 167 := ⟨by decide +kernel, rfl, ⟨by decide +kernel, by decide +kernel⟩, by decide, by decide +kernel, (fun h => by first | rfl | cases h), q295, Or.inl ⟨rfl, q2353⟩⟩
theorem ct_m_168 : ct_M 168 := ⟨by decide +kernel, rfl, ⟨by decide +kernel, by decide +kernel⟩, by decide, by decide +kernel, (fun h => by first | rfl | cases h), q295, Or.inl ⟨rfl, q2373⟩⟩
theorem ct_m_169 : ct_M 169 := ⟨by decide +kernel, rfl, ⟨by decide +kernel, by decide +kernel⟩, by decide, by decide +kernel, (fun h => by first | rfl | cases h), q295, Or.inl ⟨rfl, q2389⟩⟩
theorem ct_m_170 : ct_M 170 := ⟨by decide +kernel, rfl, ⟨by decide +kernel, by decide +kernel⟩, by decide, by decide +kernel, (fun h => by first | rfl | cases h), q295, Or.inl ⟨rfl, q2397⟩⟩
theorem ct_m_171 : ct_M 171 := ⟨by decide +kernel, rfl, ⟨by decide +kernel, by decide +kernel⟩, by decide, by decide +kernel, (fun h => by first | rfl | cases h), q295, Or.inl ⟨rfl, q2401⟩⟩
theorem ct_m_172 : ct_M 172 := ⟨by decide +kernel, rfl, ⟨by decide +kernel, by decide +kernel⟩, by decide, by decide +kernel, (fun h => by first | rfl | cases h), q295, Or.inl ⟨rfl, q2405⟩⟩
theorem ct_m_173 : ct_M 173 := ⟨by decide +kernel, rfl, ⟨by decide +kernel, by decide +kernel⟩, by decide, by decide +kernel, (fun h => by first | rfl | cases h), q295, Or.inl ⟨rfl, q2421⟩⟩
theorem ct_m_174 : ct_M 174 := ⟨by decide +kernel, rfl, ⟨by decide +kernel, by decide +kernel⟩, by decide, by decide +kernel, (fun h => by first | rfl | cases h), q295, Or.inl ⟨rfl, q2425⟩⟩
theorem ct_m_175 : ct_M 175 := ⟨by decide +kernel, rfl, ⟨by decide +kernel, by decide +kernel⟩, by decide, by decide +kernel, (fun h => by first | rfl | cases h), q295, Or.inl ⟨rfl, q2433⟩⟩
theorem ct_m_176 : ct_M 176 := ⟨by decide +kernel, rfl, ⟨by decide +kernel, by decide +kernel⟩, by decide, by decide +kernel, (fun h => by first | rfl | cases h), q295, Or.inl ⟨rfl, q2437⟩⟩
theorem ct_m_177 : ct_M 177 := ⟨by decide +kernel, rfl, ⟨by decide +kernel, by decide +kernel⟩, by decide, by decide +kernel, (fun h => by first | rfl | cases h), q295, Or.inl ⟨rfl, q2441⟩⟩
theorem ct_m_178 : ct_M 178 := ⟨by decide +kernel, rfl, ⟨by decide +kernel, by decide +kernel⟩, by decide, by decide +kernel, (fun h => by first | rfl | cases h), q295, Or.inl ⟨rfl, q2445⟩⟩
theorem ct_m_179 : ct_M 179 := ⟨by decide +kernel, rfl, ⟨by decide +kernel, by decide +kernel⟩, by decide, by decide +kernel, (fun h => by first | rfl | cases h), q295, Or.inl ⟨rfl, q2449⟩⟩
theorem ct_m_180 : ct_M 180 := ⟨by decide +kernel, rfl, ⟨by decide +kernel, by decide +kernel⟩, by decide, by decide +kernel, (fun h => by first | rfl | cases h), q295, Or.inl ⟨rfl, q2453⟩⟩
theorem ct_m_181 : ct_M 181 := ⟨by decide +kernel, rfl, ⟨by decide +kernel, by decide +kernel⟩, by decide, by decide +kernel, (fun h => by first | rfl | cases h), q295, Or.inl ⟨rfl, q2458⟩⟩
theorem ct_m_182 : ct_M 182 := ⟨by decide +kernel, rfl, ⟨by decide +kernel, by decide +kernel⟩, by decide, by decide +kernel, (fun h => by first | rfl | cases h), q295, Or.inl ⟨rfl, q2470⟩⟩
theorem ct_m_183 : ct_M 183 := ⟨by decide +kernel, rfl, ⟨by decide +kernel, by decide +kernel⟩, by decide, by decide +kernel, (fun h => by first | rfl | cases h), q295, Or.inl ⟨rfl, q2477⟩⟩
theorem ct_m_184 : ct_M 184 := ⟨by decide +kernel, rfl, ⟨by decide +kernel, by decide +kernel⟩, by decide, by decide +kernel, (fun h => by first | rfl | cases h), q295, Or.inl ⟨rfl, q2485⟩⟩
theorem ct_m_185 : ct_M 185 := ⟨by decide +kernel, rfl, ⟨by decide +kernel, by decide +kernel⟩, by decide, by decide +kernel, (fun h => by first | rfl | cases h), q295, Or.inr ⟨rfl, _, q3061⟩⟩
theorem ct_m_186 : ct_M 186 := ⟨by decide +kernel, rfl, ⟨by decide +kernel, by decide +kernel⟩, by decide, by decide +kernel, (fun h => by first | rfl | cases h), q296, Or.inl ⟨rfl, q606⟩⟩
theorem ct_m_187 : ct_M 187 := ⟨by decide +kernel, rfl, ⟨by decide +kernel, by decide +kernel⟩, by decide, by decide +kernel, (fun h => by first | rfl | cases h), q296, Or.inl ⟨rfl, q1378⟩⟩
theorem ct_m_188 : ct_M 188 := ⟨by decide +kernel, rfl, ⟨by decide +kernel, by decide +kernel⟩, by decide, by decide +kernel, (fun h => by first | rfl | cases h), q296, Or.inl ⟨rfl, q1386⟩⟩
theorem ct_m_189 : ct_M 189 := ⟨by decide +kernel, rfl, ⟨by decide +kernel, by decide +kernel⟩, by decide, by decide +kernel, (fun h => by first | rfl | cases h), q296, Or.inl ⟨rfl, q1428⟩⟩
theorem ct_m_190 : ct_M 190 := ⟨by decide +kernel, rfl, ⟨by decide +kernel, by decide +kernel⟩, by decide, by decide +kernel, (fun h => by first | rfl | cases h), q296, Or.inl ⟨rfl, q1508⟩⟩
theorem ct_m_191 : ct_M 191 := ⟨by decide +kernel, rfl, ⟨by decide +kernel, by decide +kernel⟩, by decide, by decide +kernel, (fun h => by first | rfl | cases h), q297, Or.inl ⟨rfl, q637⟩⟩
theorem ct_m_192 : ct_M 192 := ⟨by decide +kernel, rfl, ⟨by decide +kernel, by decide +kernel⟩, by decide, by decide +kernel, (fun h => by first | rfl | cases h), q297, Or.inl ⟨rfl, q1784⟩⟩
theorem ct_m_193 : ct_M 193 := ⟨by decide +kernel, rfl, ⟨by decide +kernel, by decide +kernel⟩, by decide, by decide +kernel, (fun h => by first | rfl | cases h), q297, Or.inl ⟨rfl, q1820⟩⟩
theorem ct_m_194 : ct_M 194 := ⟨by decide +kernel, rfl, ⟨by decide +kernel, by decide +kernel⟩, by decide, by decide +kernel, (fun h => by first | rfl | cases h), q297, Or.inl ⟨rfl, q1825⟩⟩
theorem ct_m_195 : ct_M 195 := ⟨by decide +kernel, rfl, ⟨by decide +kernel, by decide +kernel⟩, by decide, by decide +kernel, (fun h => by first | rfl | cases h), q297, Or.inl ⟨rfl, q2082⟩⟩
theorem ct_m_196 : ct_M 196 := ⟨by decide +kernel, rfl, ⟨by decide +kernel, by decide +kernel⟩, by decide, by decide +kernel, (fun h => by first | rfl | cases h), q297, Or.inl ⟨rfl, q2091⟩⟩
theorem ct_m_197 : ct_M 197 := ⟨by decide +kernel, rfl, ⟨by decide +kernel, by decide +kernel⟩, by decide, by decide +kernel, (fun h => by first | rfl | cases h), q297, Or.inl ⟨rfl, q2095⟩⟩
theorem ct_m_198 : ct_M 198 := ⟨by decide +kernel, rfl, ⟨by decide +kernel, by decide +kernel⟩, by decide, by decide +kernel, (fun h => by first | rfl | cases h), q297, Or.inl ⟨rfl, q2099⟩⟩
theorem ct_m_199 : ct_M 199 := ⟨by decide +kernel, rfl, ⟨by decide +kernel, by decide +kernel⟩, by decide, by decide +kernel, (fun h => by first | rfl | cases h), q298, Or.inl ⟨rfl, q835⟩⟩
theorem ct_m_200 : ct_M 200 := ⟨by decide +kernel, rfl, ⟨by decide +kernel, by decide +kernel⟩, by decide, by decide +kernel, (fun h => by first | rfl | cases h), q298, Or.inl ⟨rfl, q902⟩⟩
theorem ct_m_201 : ct_M 201 := ⟨by decide +kernel, rfl, ⟨by decide +kernel, by decide +kernel⟩, by decide, by decide +kernel, (fun h => by first | rfl | cases h), q298, Or.inl ⟨rfl, q906⟩⟩
theorem ct_m_202 : ct_M 202 := ⟨by decide +kernel, rfl, ⟨by decide +kernel, by decide +kernel⟩, by decide, by decide +kernel, (fun h => by first | rfl | cases h), q298, Or.inl ⟨rfl, q1042⟩⟩
theorem ct_m_203 : ct_M 203 := ⟨by decide +kernel, rfl, ⟨by decide +kernel, by decide +kernel⟩, by decide, by decide +kernel, (fun h => by first | rfl | cases h), q298, Or.inl ⟨rfl, q1051⟩⟩
theorem ct_m_204 : ct_M 204 := ⟨by decide +kernel, rfl, ⟨by decide +kernel, by decide +kernel⟩, by decide, by decide +kernel, (fun h => by first | rfl | cases h), q298, Or.inl ⟨rfl, q1063⟩⟩
theorem ct_m_205 : ct_M 205 := ⟨by decide +kernel, rfl, ⟨by decide +kernel, by decide +kernel⟩, by decide, by decide +kernel, (fun h => by first | rfl | cases h), q298, Or.inl ⟨rfl, q1066⟩⟩
theorem ct_m_206 : ct_M 206 := ⟨by decide +kernel, rfl, ⟨by decide +kernel, by decide +kernel⟩, by decide, by decide +kernel, (fun h => by first | rfl | cases h), q306, Or.inl ⟨rfl, q1100⟩⟩
theorem ct_m_207 : ct_M 207 := ⟨by decide +kernel, rfl, ⟨by decide +kernel, by decide +kernel⟩, by decide, by decide +kernel, (fun h => by first | rfl | cases h), q306, Or.inl ⟨rfl, q2501⟩⟩
theorem ct_m_208 : ct_M 208 := ⟨by decide +kernel, rfl, ⟨by decide +kernel, by decide +kernel⟩, by decide, by decide +kernel, (fun h => by first | rfl | cases h), q306, Or.inl ⟨rfl, q2521⟩⟩
theorem ct_m_209 : ct_M 209 := ⟨by decide +kernel, rfl, ⟨by decide +kernel, by decide +kernel⟩, by decide, by decide +kernel, (fun h => by first | rfl | cases h), q306, Or.inl ⟨rfl, q2721⟩⟩
theorem ct_m_210 : ct_M 210 := ⟨by decide +kernel, rfl, ⟨by decide +kernel, by decide +kernel⟩, by decide, by decide +kernel, (fun h => by first | rfl | cases h), q306, Or.inl ⟨rfl, q2725⟩⟩
theorem ct_m_211 : ct_M 211 := ⟨by decide +kernel, rfl, ⟨by decide +kernel, by decide +kernel⟩, by decide, by decide +kernel, (fun h => by first | rfl | cases h), q306, Or.inl ⟨rfl, q2732⟩⟩
theorem ct_m_212 : ct_M 212 := ⟨by decide +kernel, rfl, ⟨by decide +kernel, by decide +kernel⟩, by decide, by decide +kernel, (fun h => by first | rfl | cases h), q306, Or.inl ⟨rfl, q2779⟩⟩
theorem ct_m_213 : ct_M 213 := ⟨by decide +kernel, rfl, ⟨by decide +kernel, by decide +kernel⟩, by decide, by decide +kernel, (fun h => by first | rfl | cases h), q307, Or.inl ⟨rfl, q1106⟩⟩
theorem ct_m_214 : ct_M 214 := ⟨by decide +kernel, rfl, ⟨by decide +kernel, by decide +kernel⟩, by decide, by decide +kernel, (fun h => by first | rfl | cases h), q307, Or.inl ⟨rfl, q2507⟩⟩
theorem ct_m_215 : ct_M 215 := ⟨by decide +kernel, rfl, ⟨by decide +kernel, by decide +kernel⟩, by decide, by decide +kernel, (fun h => by first | rfl | cases h), q307, Or.inl ⟨rfl, q2511⟩⟩
theorem ct_m_216 : ct_M 216 := ⟨by decide +kernel, rfl, ⟨by decide +kernel, by decide +kernel⟩, by decide, by decide +kernel, (fun h => by first | rfl | cases h), q307, Or.inl ⟨rfl, q2525⟩⟩
theorem ct_m_217 : ct_M 217 := ⟨by decide +kernel, rfl, ⟨by decide +kernel, by decide +kernel⟩, by decide, by decide +kernel, (fun h => by first | rfl | cases h), q307, Or.inl ⟨rfl, q2529⟩⟩
theorem ct_m_218 : ct_M 218 := ⟨by decide +kernel, rfl, ⟨by decide +kernel, by decide +kernel⟩, by decide, by decide +kernel, (fun h => by first | rfl | cases h), q307, Or.inl ⟨rfl, q2533⟩⟩
theorem ct_m_219 : ct_M 219 := ⟨by decide +kernel, rfl, ⟨by decide +kernel, by decide +kernel⟩, by decide, by decide +kernel, (fun h => by first | rfl | cases h), q307, Or.inl ⟨rfl, q2536⟩⟩
theorem ct_m_220 : ct_M 220 := ⟨by decide +kernel, rfl, ⟨by decide +kernel, by decide +kernel⟩, by decide, by decide +kernel, (fun h => by first | rfl | cases h), q307, Or.inl ⟨rfl, q2544⟩⟩
theorem ct_m_221 : ct_M 221 := ⟨by decide +kernel, rfl, ⟨by decide +kernel, by decide +kernel⟩, by decide, by decide +kernel, (fun h => by first | rfl | cases h), q307, Or.inl ⟨rfl, q2548⟩⟩
theorem ct_m_222 : ct_M 222 := ⟨by decide +kernel, rfl, ⟨by decide +kernel, by decide +kernel⟩, by decide, by decide +kernel, (fun h => by first | rfl | cases h), q307, Or.inl ⟨rfl, q2552⟩⟩
theorem ct_m_223 : ct_M 223 := ⟨by decide +kernel, rfl, ⟨by decide +kernel, by decide +kernel⟩, by decide, by decide +kernel, (fun h => by first | rfl | cases h), q307, Or.inl ⟨rfl, q2556⟩⟩
theorem ct_m_224 : ct_M 224 := ⟨by decide +kernel, rfl, ⟨by decide +kernel, by decide +kernel⟩, by decide, by decide +kernel, (fun h => by first | rfl | cases h), q307, Or.inl ⟨rfl, q2560⟩⟩
theorem ct_m_225 : ct_M 225 := ⟨by decide +kernel, rfl, ⟨by decide +kernel, by decide +kernel⟩, by decide, by decide +kernel, (fun h => by first | rfl | cases h), q307, Or.inl ⟨rfl, q2564⟩⟩
theorem ct_m_226 : ct_M 226 := ⟨by decide +kernel, rfl, ⟨by decide +kernel, by decide +kernel⟩, by decide, by decide +kernel, (fun h => by first | rfl | cases h), q307, Or.inl ⟨rfl, q2568⟩⟩
theorem ct_m_227 : ct_M 227 := ⟨by decide +kernel, rfl, ⟨by decide +kernel, by decide +kernel⟩, by decide, by decide +kernel, (fun h => by first | rfl | cases h), q307, Or.inl ⟨rfl, q2572⟩⟩
theorem ct_m_228 : ct_M 228 := ⟨by decide +kernel, rfl, ⟨by decide +kernel, by decide +kernel⟩, by decide, by decide +kernel, (fun h => by first | rfl | cases h), q307, Or.inl ⟨rfl, q2575⟩⟩
theorem ct_m_229 : ct_M 229 := ⟨by decide +kernel, rfl, ⟨by decide +kernel, by decide +kernel⟩, by decide, by decide +kernel, (fun h => by first | rfl | cases h), q307, Or.inl ⟨rfl, q2578⟩⟩
theorem ct_m_230 : ct_M 230 := ⟨by decide +kernel, rfl, ⟨by decide +kernel, by decide +kernel⟩, by decide, by decide +kernel, (fun h => by first | rfl | cases h), q307, Or.inl ⟨rfl, q2588⟩⟩
theorem ct_m_231 : ct_M 231 := ⟨by decide +kernel, rfl, ⟨by decide +kernel, by decide +kernel⟩, by decide, by decide +kernel, (fun h => by first | rfl | cases h), q307, Or.inl ⟨rfl, q2592⟩⟩
theorem ct_m_232 : ct_M 232 := ⟨by decide +kernel, rfl, ⟨by decide +kernel, by decide +kernel⟩, by decide, by decide +kernel, (fun h => by first | rfl | cases h), q307, Or.inl ⟨rfl, q2596⟩⟩
theorem ct_m_233 : ct_M 233 := ⟨by decide +kernel, rfl, ⟨by decide +kernel, by decide +kernel⟩, by decide, by decide +kernel, (fun h => by first | rfl | cases h), q307, Or.inl ⟨rfl, q2600⟩⟩
theorem ct_m_234 : ct_M 234 := ⟨by decide +kernel, rfl, ⟨by decide +kernel, by decide +kernel⟩, by decide, by decide +kernel, (fun h => by first | rfl | cases h), q307, Or.inl ⟨rfl, q2608⟩⟩
theorem ct_m_235 : ct_M 235 := ⟨by decide +kernel, rfl, ⟨by decide +kernel, by decide +kernel⟩, by decide, by decide +kernel, (fun h => by first | rfl | cases h), q307, Or.inl ⟨rfl, q2612⟩⟩
theorem ct_m_236 : ct_M 236 := ⟨by decide +kernel, rfl, ⟨by decide +kernel, by decide +kernel⟩, by decide, by decide +kernel, (fun h => by first | rfl | cases h), q307, Or.inl ⟨rfl, q2616⟩⟩
theorem ct_m_237 : ct_M 237 := ⟨by decide +kernel, rfl, ⟨by decide +kernel, by decide +kernel⟩, by decide, by decide +kernel, (fun h => by first | rfl | cases h), q307, Or.inl ⟨rfl, q2620⟩⟩
theorem ct_m_238 : ct_M 238 := ⟨by decide +kernel, rfl, ⟨by decide +kernel, by decide +kernel⟩, by decide, by decide +kernel, (fun h => by first | rfl | cases h), q307, Or.inl ⟨rfl, q2624⟩⟩
theorem ct_m_239 : ct_M 239 := ⟨by decide +kernel, rfl, ⟨by decide +kernel, by decide +kernel⟩, by decide, by decide +kernel, (fun h => by first | rfl | cases h), q307, Or.inl ⟨rfl, q2628⟩⟩
theorem ct_m_240 : ct_M 240 := ⟨by decide +kernel, rfl, ⟨by decide +kernel, by decide +kernel⟩, by decide, by decide +kernel, (fun h => by first | rfl | cases h), q307, Or.inl ⟨rfl, q2632⟩⟩
theorem ct_m_241 : ct_M 241 := ⟨by decide +kernel, rfl, ⟨by decide +kernel, by decide +kernel⟩, by decide, by decide +kernel, (fun h => by first | rfl | cases h), q307, Or.inl ⟨rfl, q2636⟩⟩
theorem ct_m_242 : ct_M 242 := ⟨by decide +kernel, rfl, ⟨by decide +kernel, by decide +kernel⟩, by decide, by decide +kernel, (fun h => by first | rfl | cases h), q307, Or.inl ⟨rfl, q2640⟩⟩
theorem ct_m_243 : ct_M 243 := ⟨by decide +kernel, rfl, ⟨by decide +kernel, by decide +kernel⟩, by decide, by decide +kernel, (fun h => by first | rfl | cases h), q307, Or.inl ⟨rfl, q2644⟩⟩
theorem ct_m_244 : ct_M 244 := ⟨by decide +kernel, rfl, ⟨by decide +kernel, by decide +kernel⟩, by decide, by decide +kernel, (fun h => by first | rfl | cases h), q307, Or.inl ⟨rfl, q2648⟩⟩
theorem ct_m_245 : ct_M 245 := ⟨by decide +kernel, rfl, ⟨by decide +kernel, by decide +kernel⟩, by decide, by decide +kernel, (fun h => by first | rfl | cases h), q307, Or.inl ⟨rfl, q2653⟩⟩
theorem ct_m_246 : ct_M 246 := ⟨by decide +kernel, rfl, ⟨by decide +kernel, by decide +kernel⟩, by decide, by decide +kernel, (fun h => by first | rfl | cases h), q307, Or.inl ⟨rfl, q2657⟩⟩
theorem ct_m_247 : ct_M 247 := ⟨by decide +kernel, rfl, ⟨by decide +kernel, by decide +kernel⟩, by decide, by decide +kernel, (fun h => by first | rfl | cases h), q307, Or.inl ⟨rfl, q2665⟩⟩
theorem ct_m_248 : ct_M 248 := ⟨by decide +kernel, rfl, ⟨by decide +kernel, by decide +kernel⟩, by decide, by decide +kernel, (fun h => by first | rfl | cases h), q307, Or.inl ⟨rfl, q2673⟩⟩
theorem ct_m_249 : ct_M 249 := ⟨by decide +kernel, rfl, ⟨by decide +kernel, by decide +kernel⟩, by decide, by decide +kernel, (fun h => by first | rfl | cases h), q307, Or.inl ⟨rfl, q2677⟩⟩
theorem ct_m_250 : ct_M 250 := ⟨by decide +kernel, rfl, ⟨by decide +kernel, by decide +kernel⟩, by decide, by decide +kernel, (fun h => by first | rfl | cases h), q307, Or.inl ⟨rfl, q2681⟩⟩
theorem ct_m_251 : ct_M 251 := ⟨by decide +kernel, rfl, ⟨by decide +kernel, by decide +kernel⟩, by decide, by decide +kernel, (fun h => by first | rfl | cases h), q307, Or.inl ⟨rfl, q2685⟩⟩
theorem ct_m_252 : ct_M 252 := ⟨by decide +kernel, rfl, ⟨by decide +kernel, by decide +kernel⟩, by decide, by decide +kernel, (fun h => by first | rfl | cases h), q307, Or.inl ⟨rfl, q2689⟩⟩
theorem ct_m_253 : ct_M 253 := ⟨by decide +kernel, rfl, ⟨by decide +kernel, by decide +kernel⟩, by decide, by decide +kernel, (fun h => by first | rfl | cases h), q307, Or.inl ⟨rfl, q2693⟩⟩
theorem ct_m_254 : ct_M 254 := ⟨by decide +kernel, rfl, ⟨by decide +kernel, by decide +kernel⟩, by decide, by decide +kernel, (fun h => by first | rfl | cases h), q307, Or.inl ⟨rfl, q2697⟩⟩
theorem ct_m_255 : ct_M 255 := ⟨by decide +kernel, rfl, ⟨by decide +kernel, by decide +kernel⟩, by decide, by decide +kernel, (fun h => by first | rfl | cases h), q307, Or.inl ⟨rfl, q2701⟩⟩
theorem ct_m_256 : ct_M 256 := ⟨by decide +kernel, rfl, ⟨by decide +kernel, by decide +kernel⟩, by decide, by decide +kernel, (fun h => by first | rfl | cases h), q307, Or.inl ⟨rfl, q2705⟩⟩
theorem ct_m_257 : ct_M 257 := ⟨by decide +kernel, rfl, ⟨by decide +kernel, by decide +kernel⟩, by decide, by decide +kernel, (fun h => by first | rfl | cases h), q307, Or.inl ⟨rfl, q2750⟩⟩
theorem ct_m_258 : ct_M 258 := ⟨by decide +kernel, rfl, ⟨by decide +kernel, by decide +kernel⟩, by decide, by decide +kernel, (fun h => by first | rfl | cases h), q307, Or.inl ⟨rfl, q2754⟩⟩
theorem ct_m_259 : ct_M 259 := ⟨by decide +kernel, rfl, ⟨by decide +kernel, by decide +kernel⟩, by decide, by decide +kernel, (fun h => by first | rfl | cases h), q307, Or.inl ⟨rfl, q2758⟩⟩
theorem ct_m_260 : ct_M 260 := ⟨by decide +kernel, rfl, ⟨by decide +kernel, by decide +kernel⟩, by decide, by decide +kernel, (fun h => by first | rfl | cases h), q307, Or.inl ⟨rfl, q2762⟩⟩
theorem ct_m_261 : ct_M 261 := ⟨by decide +kernel, rfl, ⟨by decide +kernel, by decide +kernel⟩, by decide, by decide +kernel, (fun h => by first | rfl | cases h), q308, Or.inl ⟨rfl, q1227⟩⟩
theorem ct_m_262 : ct_M 262 := ⟨by decide +kernel, rfl, ⟨by decide +kernel, by decide +kernel⟩, by decide, by decide +kernel, (fun h => by first | rfl | cases h), q309, Or.inl ⟨rfl, q1391⟩⟩
theorem ct_m_263 : ct_M 263 := ⟨by decide +kernel, rfl, ⟨by decide +kernel, by decide +kernel⟩, by decide, by decide +kernel, (fun h => by first | rfl | cases h), q309, Or.inl ⟨rfl, q1420⟩⟩
theorem ct_m_264 : ct_M 264 := ⟨by decide +kernel, rfl, ⟨by decide +kernel, by decide +kernel⟩, by decide, by decide +kernel, (fun h => by first | rfl | cases h), q309, Or.inl ⟨rfl, q1619⟩⟩
theorem ct_m_265 : ct_M 265 := ⟨by decide +kernel, rfl, ⟨by decide +kernel, by decide +kernel⟩, by decide, by decide +kernel, (fun h => by first | rfl | cases h), q309, Or.inl ⟨rfl, q1695⟩⟩
theorem ct_m_266 : ct_M 266 := ⟨by decide +kernel, rfl, ⟨by decide +kernel, by decide +kernel⟩, by decide, by decide +kernel, (fun h => by first | rfl | cases h), q310, Or.inl ⟨rfl, q1432⟩⟩
theorem ct_m_267 : ct_M 267 := ⟨by decide +kernel, rfl, ⟨by decide +kernel, by decide +kernel⟩, by decide, by decide +kernel, (fun h => by first | rfl | cases h), q310, Or.inl ⟨rfl, q1486⟩⟩
theorem ct_m_268 : ct_M 268 := ⟨by decide +kernel, rfl, ⟨by decide +kernel, by decide +kernel⟩, by decide, by decide +kernel, (fun h => by first | rfl | cases h), q310, Or.inl ⟨rfl, q1801⟩⟩
theorem ct_m_269 : ct_M 269 := ⟨by decide +kernel, rfl, ⟨by decide +kernel, by decide +kernel⟩, by decide, by decide +kernel, (fun h => by first | rfl | cases h), q310, Or.inl ⟨rfl, q1805⟩⟩
theorem ct_m_270 : ct_M 270 := ⟨by decide +kernel, rfl, ⟨by decide +kernel, by decide +kernel⟩, by decide, by decide +kernel, (fun h => by first | rfl | cases h), q310, Or.inl ⟨rfl, q1944⟩⟩
theorem ct_m_271 : ct_M 271 := ⟨by decide +kernel, rfl, ⟨by decide +kernel, by decide +kernel⟩, by decide, by decide +kernel, (fun h => by first | rfl | cases h), q310, Or.inl ⟨rfl, q1969⟩⟩
theorem ct_m_272 : ct_M 272 := ⟨by decide +kernel, rfl, ⟨by decide +kernel, by decide +kernel⟩, by decide, by decide +kernel, (fun h => by first | rfl | cases h), q310, Or.inl ⟨rfl, q2047⟩⟩
theorem ct_m_273 : ct_M 273 := ⟨by decide +kernel, rfl, ⟨by decide +kernel, by decide +kernel⟩, by decide, by decide +kernel, (fun h => by first | rfl | cases h), q311, Or.inl ⟨rfl, q1512⟩⟩
theorem ct_m_274 : ct_M 274 := ⟨by decide +kernel, rfl, ⟨by decide +kernel, by decide +kernel⟩, by decide, by decide +kernel, (fun h => by first | rfl | cases h), q311, Or.inl ⟨rfl, q1615⟩⟩
theorem ct_m_275 : ct_M 275 := ⟨by decide +kernel, rfl, ⟨by decide +kernel, by decide +kernel⟩, by decide, by decide +kernel, (fun h => by first | rfl | cases h), q311, Or.inl ⟨rfl, q1699⟩⟩
theorem ct_m_276 : ct_M 276 := ⟨by decide +kernel, rfl, ⟨by decide +kernel, by decide +kernel⟩, by decide, by decide +kernel, (fun h => by first | rfl | cases h), q312, Or.inl ⟨rfl, q1749⟩⟩
theorem ct_m_277 : ct_M 277 := ⟨by decide +kernel, rfl, ⟨by decide +kernel, by decide +kernel⟩, by decide, by decide +kernel, (fun h => by first | rfl | cases h), q299, Or.inl ⟨rfl, q910⟩⟩
theorem ct_m_278 : ct_M 278 := ⟨by decide +kernel, rfl, ⟨by decide +kernel, by decide +kernel⟩, by decide, by decide +kernel, (fun h => by first | rfl | cases h), q299, Or.inl ⟨rfl, q914⟩⟩
theorem ct_m_279 : ct_M 279 := ⟨by decide +kernel, rfl, ⟨by decide +kernel, by decide +kernel⟩, by decide, by decide +kernel, (fun h => by first | rfl | cases h), q299, Or.inl ⟨rfl, q920⟩⟩
theorem ct_m_280 : ct_M 280 := ⟨by decide +kernel, rfl, ⟨by decide +kernel, by decide +kernel⟩, by decide, by decide +kernel, (fun h => by first | rfl | cases h), q299, Or.inl ⟨rfl, q924⟩⟩
theorem ct_m_281 : ct_M 281 := ⟨by decide +kernel, rfl, ⟨by decide +kernel, by decide +kernel⟩, by decide, by decide +kernel, (fun h => by first | rfl | cases h), q299, Or.inl ⟨rfl, q930⟩⟩
theorem ct_m_282 : ct_M 282 := ⟨by decide +kernel, rfl, ⟨by decide +kernel, by decide +kernel⟩, by decide, by decide +kernel, (fun h => by first | rfl | cases h), q299, Or.inl ⟨rfl, q958⟩⟩
theorem ct_m_283 : ct_M 283 := ⟨by decide +kernel, rfl, ⟨by decide +kernel, by decide +kernel⟩, by decide, by decide +kernel, (fun h => by first | rfl | cases h), q299, Or.inl ⟨rfl, q962⟩⟩
theorem ct_m_284 : ct_M 284 := ⟨by decide +kernel, rfl, ⟨by decide +kernel, by decide +kernel⟩, by decide, by decide +kernel, (fun h => by first | rfl | cases h), q299, Or.inl ⟨rfl, q996⟩⟩
theorem ct_m_285 : ct_M 285 := ⟨by decide +kernel, rfl, ⟨by decide +kernel, by decide +kernel⟩, by decide, by decide +kernel, (fun h => by first | rfl | cases h), q299, Or.inl ⟨rfl, q1046⟩⟩
theorem ct_m_286 : ct_M 286 := ⟨by decide +kernel, rfl, ⟨by decide +kernel, by decide +kernel⟩, by decide, by decide +kernel, (fun h => by first | rfl | cases h), q299, Or.inl ⟨rfl, q1055⟩⟩
theorem ct_m_287 : ct_M 287 := ⟨by decide +kernel, rfl, ⟨by decide +kernel, by decide +kernel⟩, by decide, by decide +kernel, (fun h => by first | rfl | cases h), q300, Or.inl ⟨rfl, q927⟩⟩
theorem ct_m_288 : ct_M 288 := ⟨by decide +kernel, rfl, ⟨by decide +kernel, by decide +kernel⟩, by decide, by decide +kernel, (fun h => by first | rfl | cases h), q300, Or.inl ⟨rfl, q968⟩⟩
theorem ct_m_289 : ct_M 289 := ⟨by decide +kernel, rfl, ⟨by decide +kernel, by decide +kernel⟩, by decide, by decide +kernel, (fun h => by first | rfl | cases h), q300, Or.inl ⟨rfl, q1059⟩⟩
theorem ct_m_290 : ct_M 290 := ⟨by decide +kernel, rfl, ⟨by decide +kernel, by decide +kernel⟩, by decide, by decide +kernel, (fun h => by first | rfl | cases h), q301, Or.inl ⟨rfl, q935⟩⟩
theorem ct_m_291 : ct_M 291 := ⟨by decide +kernel, rfl, ⟨by decide +kernel, by decide +kernel⟩, by decide, by decide +kernel, (fun h => by first | rfl | cases h), q301, Or.inl ⟨rfl, q965⟩⟩
theorem ct_m_292 : ct_M 292 := ⟨by decide +kernel, rfl, ⟨by decide +kernel, by decide +kernel⟩, by decide, by decide +kernel, (fun h => by first | rfl | cases h), q303, Or.inl ⟨rfl, q974⟩⟩
theorem ct_m_293 : ct_M 293 := ⟨by decide +kernel, rfl, ⟨by decide +kernel, by decide +kernel⟩, by decide, by decide +kernel, (fun h => by first | rfl | cases h), q303, Or.inl ⟨rfl, q977⟩⟩
theorem ct_m_294 : ct_M 294 := ⟨by decide +kernel, rfl, ⟨by decide +kernel, by decide +kernel⟩, by decide, by decide +kernel, (fun h => by first | rfl | cases h), q303, Or.inl ⟨rfl, q980⟩⟩
theorem ct_m_295 : ct_M 295 := ⟨by decide +kernel, rfl, ⟨by decide +kernel, by decide +kernel⟩, by decide, by decide +kernel, (fun h => by first | rfl | cases h), q313, Or.inl ⟨rfl, q2581⟩⟩
theorem ct_m_296 : ct_M 296 := ⟨by decide +kernel, rfl, ⟨by decide +kernel, by decide +kernel⟩, by decide, by decide +kernel, (fun h => by first | rfl | cases h), q291, Or.inl ⟨rfl, q540⟩⟩
theorem ct_m_297 : ct_M 297 := ⟨by decide +kernel, rfl, ⟨by decide +kernel, by decide +kernel⟩, by decide, by decide +kernel, (fun h => by first | rfl | cases h), q291, Or.inl ⟨rfl, q566⟩⟩
theorem ct_m_298 : ct_M 298 := ⟨by decide +kernel, rfl, ⟨by decide +kernel, by decide +kernel⟩, by decide, by decide +kernel, (fun h => by first | rfl | cases h), q292, Or.inl ⟨rfl, q563⟩⟩
theorem ct_m_299 : ct_M 299 := ⟨by decide +kernel, rfl, ⟨by decide +kernel, by decide +kernel⟩, by decide, by decide +kernel, (fun h => by first | rfl | cases h), q293, Or.inl ⟨rfl, q560⟩⟩
theorem ct_mB_0 (m : Nat) (h1 : 1 ≤ m) (h2 : m < 41) : ct_M m := by
  obtain ⟨i, rfl⟩ := Nat.exists_eq_add_of_le h1
  match i, h2 with
  | 0, _ => exact ct_m_1
  | 1, _ => exact ct_m_2
  | 2, _ => exact ct_m_3
  | 3, _ => exact ct_m_4
  | 4, _ => exact ct_m_5
  | 5, _ => exact ct_m_6
  | 6, _ => exact ct_m_7
  | 7, _ => exact ct_m_8
  | 8, _ => exact ct_m_9
  | 9, _ => exact ct_m_10
  | 10, _ => exact ct_m_11
  | 11, _ => exact ct_m_12
  | 12, _ => exact ct_m_13
  | 13, _ => exact ct_m_14
  | 14, _ => exact ct_m_15
  | 15, _ => exact ct_m_16
  | 16, _ => exact ct_m_17
  | 17, _ => exact ct_m_18
  | 18, _ => exact ct_m_19
  | 19, _ => exact ct_m_20
  | 20, _ => exact ct_m_21
  | 21, _ => exact ct_m_22
  | 22, _ => exact ct_m_23
  | 23, _ => exact ct_m_24
  | 24, _ => exact ct_m_25
  | 25, _ => exact ct_m_26
  | 26, _ => exact ct_m_27
  | 27, _ => exact ct_m_28
  | 28, _ => exact ct_m_29
  | 29, _ => exact ct_m_30
  | 30, _ => exact ct_m_31
  | 31, _ => exact ct_m_32
  | 32, _ => exact ct_m_33
  | 33, _ => exact ct_m_34
  | 34, _ => exact ct_m_35
  | 35, _ => exact ct_m_36
  | 36, _ => exact ct_m_37
  | 37, _ => exact ct_m_38
  | 38, _ => exact ct_m_39
  | 39, _ => exact ct_m_40
  | n + 40, h => exact absurd h (by omega)
theorem ct_mB_1 (m : Nat) (h1 : 41 ≤ m) (h2 : m < 81) : ct_M m := by
  obtain ⟨i, rfl⟩ := Nat.exists_eq_add_of_le h1
  match i, h2 with
  | 0, _ => exact ct_m_41
  | 1, _ => exact ct_m_42
  | 2, _ => exact ct_m_43
  | 3, _ => exact ct_m_44
  | 4, _ => exact ct_m_45
  | 5, _ => exact ct_m_46
  | 6, _ => exact ct_m_47
  | 7, _ => exact ct_m_48
  | 8, _ => exact ct_m_49
  | 9, _ => exact ct_m_50
  | 10, _ => exact ct_m_51
  | 11, _ => exact ct_m_52
  | 12, _ => exact ct_m_53
  | 13, _ => exact ct_m_54
  | 14, _ => exact ct_m_55
  | 15, _ => exact ct_m_56
  | 16, _ => exact ct_m_57
  | 17, _ => exact ct_m_58
  | 18, _ => exact ct_m_59
  | 19, _ => exact ct_m_60
  | 20, _ => exact ct_m_61
  | 21, _ => exact ct_m_62
  | 22, _ => exact ct_m_63
  | 23, _ => exact ct_m_64
  | 24, _ => exact ct_m_65
  | 25, _ => exact ct_m_66
  | 26, _ => exact ct_m_67
  | 27, _ => exact ct_m_68
  | 28, _ => exact ct_m_69
  | 29, _ => exact ct_m_70
  | 30, _ => exact ct_m_71
  | 31, _ => exact ct_m_72
  | 32, _ => exact ct_m_73
  | 33, _ => exact ct_m_74
  | 34, _ => exact ct_m_75
  | 35, _ => exact ct_m_76
  | 36, _ => exact ct_m_77
  | 37, _ => exact ct_m_78
  | 38, _ => exact ct_m_79
  | 39, _ => exact ct_m_80
  | n + 40, h => exact absurd h (by omega)
theorem ct_mB_2 (m : Nat) (h1 : 81 ≤ m) (h2 : m < 121) : ct_M m := by
  obtain ⟨i, rfl⟩ := Nat.exists_eq_add_of_le h1
  match i, h2 with
  | 0, _ => exact ct_m_81
  | 1, _ => exact ct_m_82
  | 2, _ => exact ct_m_83
  | 3, _ => exact ct_m_84
  | 4, _ => exact ct_m_85
  | 5, _ => exact ct_m_86
  | 6, _ => exact ct_m_87
  | 7, _ => exact ct_m_88
  | 8, _ => exact ct_m_89
  | 9, _ => exact ct_m_90
  | 10, _ => exact ct_m_91
  | 11, _ => exact ct_m_92
  | 12, _ => exact ct_m_93
  | 13, _ => exact ct_m_94
  | 14, _ => exact ct_m_95
  | 15, _ => exact ct_m_96
  | 16, _ => exact ct_m_97
  | 17, _ => exact ct_m_98
  | 18, _ => exact ct_m_99
  | 19, _ => exact ct_m_100
  | 20, _ => exact ct_m_101
  | 21, _ => exact ct_m_102
  | 22, _ => exact ct_m_103
  | 23, _ => exact ct_m_104
  | 24, _ => exact ct_m_105
  | 25, _ => exact ct_m_106
  | 26, _ => exact ct_m_107
  | 27, _ => exact ct_m_108
  | 28, _ => exact ct_m_109
  | 29, _ => exact ct_m_110
  | 30, _ => exact ct_m_111
  | 31, _ => exact ct_m_112
  | 32, _ => exact ct_m_113
  | 33, _ => exact ct_m_114
  | 34, _ => exact ct_m_115
  | 35, _ => exact ct_m_116
  | 36, _ => exact ct_m_117
  | 37, _ => exact ct_m_118
  | 38, _ => exact ct_m_119
  | 39, _ => exact ct_m_120
  | n + 40, h => exact absurd h (by omega)
theorem ct_mB_3 (m : Nat) (h1 : 121 ≤ m) (h2 : m < 161) : ct_M m := by
  obtain ⟨i, rfl⟩ := Nat.exists_eq_add_of_le h1
  match i, h2 with
  | 0, _ => exact ct_m_121
  | 1, _ => exact ct_m_122
  | 2, _ => exact ct_m_123
  | 3, _ => exact ct_m_124
  | 4, _ => exact ct_m_125
  | 5, _ => exact ct_m_126
  | 6, _ => exact ct_m_127
  | 7, _ => exact ct_m_128
  | 8, _ => exact ct_m_129
  | 9, _ => exact ct_m_130
  | 10, _ => exact ct_m_131
  | 11, _ => exact ct_m_132
  | 12, _ => exact ct_m_133
  | 13, _ => exact ct_m_134
  | 14, _ => exact ct_m_135
  | 15, _ => exact ct_m_136
  | 16, _ => exact ct_m_137
  | 17, _ => exact ct_m_138
  | 18, _ => exact ct_m_139
  | 19, _ => exact ct_m_140
  | 20, _ => exact ct_m_141
  | 21, _ => exact ct_m_142
  | 22, _ => exact ct_m_143
  | 23, _ => exact ct_m_144
  | 24, _ => exact ct_m_145
  | 25, _ => exact ct_m_146
  | 26, _ => exact ct_m_147
  | 27, _ => exact ct_m_148
  | 28, _ => exact ct_m_149
  | 29, _ => exact ct_m_150
  | 30, _ => exact ct_m_151
  | 31, _ => exact ct_m_152
  | 32, _ => exact ct_m_153
  | 33, _ => exact ct_m_154
  | 34, _ => exact ct_m_155
  | 35, _ => exact ct_m_156
  | 36, _ => exact ct_m_157
  | 37, _ => exact ct_m_158
  | 38, _ => exact ct_m_159
  | 39, _ => exact ct_m_160
  | n + 40, h => exact absurd h (by omega)
theorem ct_mB_4 (m : Nat) (h1 : 161 ≤ m) (h2 : m < 201) : ct_M m := by
  obtain ⟨i, rfl⟩ := Nat.exists_eq_add_of_le h1
  match i, h2 with
  | 0, _ => exact ct_m_161
  | 1, _ => exact ct_m_162
  | 2, _ => exact ct_m_163
  | 3, _ => exact ct_m_164
  | 4, _ => exact ct_m_165
  | 5, _ => exact ct_m_166
  | 6, _ => exact ct_m_167
  | 7, _ => exact ct_m_168
  | 8, _ => exact ct_m_169
  | 9, _ => exact ct_m_170
  | 10, _ => exact ct_m_171
  | 11, _ => exact ct_m_172
  | 12, _ => exact ct_m_173
  | 13, _ => exact ct_m_174
  | 14, _ => exact ct_m_175
  | 15, _ => exact ct_m_176
  | 16, _ => exact ct_m_177
  | 17, _ => exact ct_m_178
  | 18, _ => exact ct_m_179
  | 19, _ => exact ct_m_180
  | 20, _ => exact ct_m_181
  | 21, _ => exact ct_m_182
  | 22, _ => exact ct_m_183
  | 23, _ => exact ct_m_184
  | 24, _ => exact ct_m_185
  | 25, _ => exact ct_m_186
  | 26, _ => exact ct_m_187
  | 27, _ => exact ct_m_188
  | 28, _ => exact ct_m_189
  | 29, _ => exact ct_m_190
  | 30, _ => exact ct_m_191
  | 31, _ => exact ct_m_192
  | 32, _ => exact ct_m_193
  | 33, _ => exact ct_m_194
  | 34, _ => exact ct_m_195
  | 35, _ => exact ct_m_196
  | 36, _ => exact ct_m_197
  | 37, _ => exact ct_m_198
  | 38, _ => exact ct_m_199
  | 39, _ => exact ct_m_200
  | n + 40, h => exact absurd h (by omega)
theorem ct_mB_5 (m : Nat) (h1 : 201 ≤ m) (h2 : m < 241) : ct_M m := by
  obtain ⟨i, rfl⟩ := Nat.exists_eq_add_of_le h1
  match i, h2 with
  | 0, _ => exact ct_m_201
  | 1, _ => exact ct_m_202
  | 2, _ => exact ct_m_203
  | 3, _ => exact ct_m_204
  | 4, _ => exact ct_m_205
  | 5, _ => exact ct_m_206
  | 6, _ => exact ct_m_207
  | 7, _ => exact ct_m_208
  | 8, _ => exact ct_m_209
  | 9, _ => exact ct_m_210
  | 10, _ => exact ct_m_211
  | 11, _ => exact ct_m_212
  | 12, _ => exact ct_m_213
  | 13, _ => exact ct_m_214
  | 14, _ => exact ct_m_215
  | 15, _ => exact ct_m_216
  | 16, _ => exact ct_m_217
  | 17, _ => exact ct_m_218
  | 18, _ => exact ct_m_219
  | 19, _ => exact ct_m_220
  | 20, _ => exact ct_m_221
  | 21, _ => exact ct_m_222
  | 22, _ => exact ct_m_223
  | 23, _ => exact ct_m_224
  | 24, _ => exact ct_m_225
  | 25, _ => exact ct_m_226
  | 26, _ => exact ct_m_227
  | 27, _ => exact ct_m_228
  | 28, _ => exact ct_m_229
  | 29, _ => exact ct_m_230
  | 30, _ => exact ct_m_231
  | 31, _ => exact ct_m_232
  | 32, _ => exact ct_m_233
  | 33, _ => exact ct_m_234
  | 34, _ => exact ct_m_235
  | 35, _ => exact ct_m_236
  | 36, _ => exact ct_m_237
  | 37, _ => exact ct_m_238
  | 38, _ => exact ct_m_239
  | 39, _ => exact ct_m_240
  | n + 40, h => exact absurd h (by omega)
theorem ct_mB_6 (m : Nat) (h1 : 241 ≤ m) (h2 : m < 281) : ct_M m := by
  obtain ⟨i, rfl⟩ := Nat.exists_eq_add_of_le h1
  match i, h2 with
  | 0, _ => exact ct_m_241
  | 1, _ => exact ct_m_242
  | 2, _ => exact ct_m_243
  | 3, _ => exact ct_m_244
  | 4, _ => exact ct_m_245
  | 5, _ => exact ct_m_246
  | 6, _ => exact ct_m_247
  | 7, _ => exact ct_m_248
  | 8, _ => exact ct_m_249
  | 9, _ => exact ct_m_250
  | 10, _ => exact ct_m_251
  | 11, _ => exact ct_m_252
  | 12, _ => exact ct_m_253
  | 13, _ => exact ct_m_254
  | 14, _ => exact ct_m_255
  | 15, _ => exact ct_m_256
  | 16, _ => exact ct_m_257
  | 17, _ => exact ct_m_258
  | 18, _ => exact ct_m_259
  | 19, _ => exact ct_m_260
  | 20, _ => exact ct_m_261
  | 21, _ => exact ct_m_262
  | 22, _ => exact ct_m_263
  | 23, _ => exact ct_m_264
  | 24, _ => exact ct_m_265
  | 25, _ => exact ct_m_266
  | 26, _ => exact ct_m_267
  | 27, _ => exact ct_m_268
  | 28, _ => exact ct_m_269
  | 29, _ => exact ct_m_270
  | 30, _ => exact ct_m_271
  | 31, _ => exact ct_m_272
  | 32, _ => exact ct_m_273
  | 33, _ => exact ct_m_274
  | 34, _ => exact ct_m_275
  | 35, _ => exact ct_m_276
  | 36, _ => exact ct_m_277
  | 37, _ => exact ct_m_278
  | 38, _ => exact ct_m_279
  | 39, _ => exact ct_m_280
  | n + 40, h => exact absurd h (by omega)
theorem ct_mB_7 (m : Nat) (h1 : 281 ≤ m) (h2 : m < 300) : ct_M m := by
  obtain ⟨i, rfl⟩ := Nat.exists_eq_add_of_le h1
  match i, h2 with
  | 0, _ => exact ct_m_281
  | 1, _ => exact ct_m_282
  | 2, _ => exact ct_m_283
  | 3, _ => exact ct_m_284
  | 4, _ => exact ct_m_285
  | 5, _ => exact ct_m_286
  | 6, _ => exact ct_m_287
  | 7, _ => exact ct_m_288
  | 8, _ => exact ct_m_289
  | 9, _ => exact ct_m_290
  | 10, _ => exact ct_m_291
  | 11, _ => exact ct_m_292
  | 12, _ => exact ct_m_293
  | 13, _ => exact ct_m_294
  | 14, _ => exact ct_m_295
  | 15, _ => exact ct_m_296
  | 16, _ => exact ct_m_297
  | 17, _ => exact ct_m_298
  | 18, _ => exact ct_m_299
  | n + 19, h => exact absurd h (by omega)
theorem ct_m (m : Nat) (h1 : 1 ≤ m) (h2 : m < 300) : ct_M m := by
  rcases Nat.lt_or_ge m 41 with h | h1
  · exact ct_mB_0 m h1 h
  rcases Nat.lt_or_ge m 81 with h | h1
  · exact ct_mB_1 m h1 h
  rcases Nat.lt_or_ge m 121 with h | h1
  · exact ct_mB_2 m h1 h
  rcases Nat.lt_or_ge m 161 with h | h1
  · exact ct_mB_3 m h1 h
  rcases Nat.lt_or_ge m 201 with h | h1
  · exact ct_mB_4 m h1 h
  rcases Nat.lt_or_ge m 241 with h | h1
  · exact ct_mB_5 m h1 h
  rcases Nat.lt_or_ge m 281 with h | h1
  · exact ct_mB_6 m h1 h
  exact ct_mB_7 m h1 h2
def ct_Ml (own x f k : Nat) : Prop := (k = 0 ∧ Cond.methodLink (am_nm own) x (am_y f) ∈ lw_all ∧ Cond.instanceMethod (am_y f) ∈ lw_all ∧ Cond.selects (am_y f).cls (am_y f) (am_y f) ∈ lw_all) ∨
  (k = 1 ∧ Cond.methodLink (am_nm own) x (am_y f) ∈ lw_all ∧ Cond.static (am_y f) ∈ lw_all) ∨
  (k = 2 ∧ Cond.methodLink (am_nm own) x (am_y f) ∈ lw_all ∧ Cond.instanceMethod (am_y f) ∈ lw_all ∧ (am_y f).name = "<init>" ∧ am_rt f = none) ∨
  (k = 3 ∧ (∃ host, Cond.methodLinkNest (am_nm own) x (am_y f) host ∈ lw_tbl) ∧ Cond.instanceMethod (am_y f) ∈ lw_all ∧ Cond.selects (am_y f).cls (am_y f) (am_y f) ∈ lw_all) ∨
  (k = 4 ∧ (∃ host, Cond.methodLinkNest (am_nm own) x (am_y f) host ∈ lw_tbl) ∧ Cond.static (am_y f) ∈ lw_all) ∨
  (k = 5 ∧ (∃ host, Cond.methodLinkNest (am_nm own) x (am_y f) host ∈ lw_tbl) ∧ Cond.instanceMethod (am_y f) ∈ lw_all ∧ (am_y f).name = "<init>" ∧ am_rt f = none) ∨
  (k = 6 ∧ Cond.methodLink (am_nm own) x objectInit ∈ lw_all) ∨
  (k = 7 ∧ Cond.methodLink (am_nm own) x arraycopyName ∈ lw_all) ∨
  (k = 8 ∧ Cond.methodLink (am_nm own) x ⟨"ModulaWorks$Ports", "out", "(LModulaWorks$Chip;II)V"⟩ ∈ lw_all ∧ Cond.selects "ModulaWorks$Program" ⟨"ModulaWorks$Ports", "out", "(LModulaWorks$Chip;II)V"⟩ (am_y f) ∈ lw_all ∧ Cond.instanceMethod (am_y f) ∈ lw_all ∧ f = 209) ∨
  (k = 9 ∧ Cond.methodLink (am_nm own) x Lib.Math.max.name ∈ lw_all) ∨ (k = 10 ∧ Cond.methodLink (am_nm own) x Lib.Math.min.name ∈ lw_all) ∨ (k = 11 ∧ Cond.methodLink (am_nm own) x Lib.Math.abs.name ∈ lw_all)
theorem ct_ml0_0_0 : ∀ e ∈ am_mlT_0_0, ct_Ml 0 e.1 e.2.1 e.2.2 := List.forall_mem_cons.mpr ⟨Or.inl ⟨rfl, q2784, q2785, q2786⟩, List.forall_mem_cons.mpr ⟨Or.inl ⟨rfl, q2795, q2796, q2797⟩, List.forall_mem_cons.mpr ⟨Or.inr (Or.inl ⟨rfl, q2780, q2781⟩), List.forall_mem_cons.mpr ⟨Or.inr (Or.inl ⟨rfl, q3070, q3071⟩), List.forall_mem_cons.mpr ⟨Or.inr (Or.inl ⟨rfl, q3087, q3088⟩), List.forall_mem_cons.mpr ⟨Or.inr (Or.inl ⟨rfl, q3093, q3094⟩), List.forall_mem_cons.mpr ⟨Or.inr (Or.inl ⟨rfl, q3096, q3097⟩), List.forall_mem_cons.mpr ⟨Or.inr (Or.inl ⟨rfl, q3127, q3128⟩), List.forall_mem_cons.mpr ⟨Or.inr (Or.inl ⟨rfl, q3138, q3139⟩), List.forall_mem_cons.mpr ⟨Or.inr (Or.inl ⟨rfl, q3080, q3081⟩), List.forall_mem_cons.mpr ⟨Or.inr (Or.inl ⟨rfl, q3083, q3084⟩), List.forall_mem_cons.mpr ⟨Or.inr (Or.inl ⟨rfl, q3120, q3121⟩), List.forall_mem_cons.mpr ⟨Or.inr (Or.inl ⟨rfl, q3123, q3124⟩), List.forall_mem_cons.mpr ⟨Or.inr (Or.inl ⟨rfl, q3133, q3134⟩), List.forall_mem_cons.mpr ⟨Or.inr (Or.inr (Or.inl ⟨rfl, q316, q317, rfl, rfl⟩)), List.forall_mem_cons.mpr ⟨Or.inr (Or.inl ⟨rfl, q3074, q3075⟩), List.forall_mem_cons.mpr ⟨Or.inr (Or.inl ⟨rfl, q3077, q3078⟩), List.forall_mem_cons.mpr ⟨Or.inr (Or.inl ⟨rfl, q2792, q2793⟩), List.forall_mem_cons.mpr ⟨Or.inl ⟨rfl, q1311, q1312, q1313⟩, List.forall_mem_cons.mpr ⟨Or.inl ⟨rfl, q1315, q1316, q1317⟩, List.forall_mem_cons.mpr ⟨Or.inl ⟨rfl, q1351, q1352, q1353⟩, List.forall_mem_cons.mpr ⟨Or.inl ⟨rfl, q2490, q2491, q2492⟩, List.forall_mem_cons.mpr ⟨Or.inl ⟨rfl, q2494, q2495, q2496⟩, List.forall_mem_cons.mpr ⟨Or.inr (Or.inl ⟨rfl, q3117, q3118⟩), List.forall_mem_cons.mpr ⟨Or.inl ⟨rfl, q2514, q2515, q2516⟩, List.forall_mem_cons.mpr ⟨Or.inl ⟨rfl, q2772, q2773, q2774⟩, List.forall_mem_cons.mpr ⟨Or.inl ⟨rfl, q2768, q2769, q2770⟩, fun _ h => absurd h List.not_mem_nil⟩⟩⟩⟩⟩⟩⟩⟩⟩⟩⟩⟩⟩⟩⟩⟩⟩⟩⟩⟩⟩⟩⟩⟩⟩⟩⟩
theorem ct_ml0_0 : ∀ e ∈ am_mlT_0, ct_Ml 0 e.1 e.2.1 e.2.2 := fun e h => ct_ml0_0_0 e h
theorem ct_ml0_1_0 : ∀ e ∈ am_mlT_1_0, ct_Ml 1 e.1 e.2.1 e.2.2 := List.forall_mem_cons.mpr ⟨Or.inl ⟨rfl, q1497, q908, q909⟩, List.forall_mem_cons.mpr ⟨Or.inl ⟨rfl, q1498, q918, q919⟩, List.forall_mem_cons.mpr ⟨Or.inr (Or.inl ⟨rfl, q1499, q1500⟩), List.forall_mem_cons.mpr ⟨Or.inr (Or.inr (Or.inr (Or.inr (Or.inr (Or.inr (Or.inl ⟨rfl, q319⟩)))))), List.forall_mem_cons.mpr ⟨Or.inr (Or.inr (Or.inr (Or.inr (Or.inr (Or.inl ⟨rfl, ⟨_, q324⟩, q325, rfl, rfl⟩))))), List.forall_mem_cons.mpr ⟨Or.inr (Or.inr (Or.inl ⟨rfl, q378, q379, rfl, rfl⟩)), List.forall_mem_cons.mpr ⟨Or.inr (Or.inr (Or.inr (Or.inr (Or.inr (Or.inl ⟨rfl, ⟨_, q512⟩, q513, rfl, rfl⟩))))), List.forall_mem_cons.mpr ⟨Or.inr (Or.inr (Or.inl ⟨rfl, q596, q597, rfl, rfl⟩)), List.forall_mem_cons.mpr ⟨Or.inr (Or.inr (Or.inl ⟨rfl, q833, q834, rfl, rfl⟩)), List.forall_mem_cons.mpr ⟨Or.inr (Or.inr (Or.inr (Or.inr (Or.inr (Or.inl ⟨rfl, ⟨_, q1098⟩, q1099, rfl, rfl⟩))))), List.forall_mem_cons.mpr ⟨Or.inr (Or.inr (Or.inl ⟨rfl, q1222, q386, rfl, rfl⟩)), List.forall_mem_cons.mpr ⟨Or.inr (Or.inr (Or.inr (Or.inr (Or.inr (Or.inl ⟨rfl, ⟨_, q1225⟩, q1226, rfl, rfl⟩))))), List.forall_mem_cons.mpr ⟨Or.inr (Or.inr (Or.inl ⟨rfl, q1240, q1105, rfl, rfl⟩)), List.forall_mem_cons.mpr ⟨Or.inl ⟨rfl, q2788, q2790, qs230⟩, List.forall_mem_cons.mpr ⟨Or.inl ⟨rfl, q2799, q2800, q2801⟩, List.forall_mem_cons.mpr ⟨Or.inl ⟨rfl, q2803, q2804, q2805⟩, List.forall_mem_cons.mpr ⟨Or.inl ⟨rfl, q2871, q2872, q2873⟩, List.forall_mem_cons.mpr ⟨Or.inl ⟨rfl, q3027, q3029, qs279⟩, List.forall_mem_cons.mpr ⟨Or.inl ⟨rfl, q3031, q3032, q3033⟩, List.forall_mem_cons.mpr ⟨Or.inr (Or.inr (Or.inr (Or.inl ⟨rfl, ⟨_, q3049⟩, q3051, qs281⟩))), List.forall_mem_cons.mpr ⟨Or.inl ⟨rfl, q3058, q3059, q3060⟩, List.forall_mem_cons.mpr ⟨Or.inl ⟨rfl, q3062, q3064, qs283⟩, List.forall_mem_cons.mpr ⟨Or.inl ⟨rfl, q1366, q1343, q1344⟩, List.forall_mem_cons.mpr ⟨Or.inl ⟨rfl, q3066, q3036, q3037⟩, List.forall_mem_cons.mpr ⟨Or.inl ⟨rfl, q1319, q1321, qs6⟩, List.forall_mem_cons.mpr ⟨Or.inl ⟨rfl, q1355, q1357, qs8⟩, List.forall_mem_cons.mpr ⟨Or.inr (Or.inr (Or.inr (Or.inl ⟨rfl, ⟨_, q1359⟩, q1329, qs7⟩))), List.forall_mem_cons.mpr ⟨Or.inl ⟨rfl, q1367, q1368, q1369⟩, List.forall_mem_cons.mpr ⟨Or.inr (Or.inr (Or.inr (Or.inr (Or.inr (Or.inr (Or.inr (Or.inl ⟨rfl, q2486⟩))))))), List.forall_mem_cons.mpr ⟨Or.inl ⟨rfl, q2498, q2499, q2500⟩, List.forall_mem_cons.mpr ⟨Or.inl ⟨rfl, q2518, q2519, q2520⟩, List.forall_mem_cons.mpr ⟨Or.inl ⟨rfl, q2776, q2777, q2778⟩, fun _ h => absurd h List.not_mem_nil⟩⟩⟩⟩⟩⟩⟩⟩⟩⟩⟩⟩⟩⟩⟩⟩⟩⟩⟩⟩⟩⟩⟩⟩⟩⟩⟩⟩⟩⟩⟩⟩
theorem ct_ml0_1 : ∀ e ∈ am_mlT_1, ct_Ml 1 e.1 e.2.1 e.2.2 := fun e h => ct_ml0_1_0 e h
theorem ct_ml0_2_0 : ∀ e ∈ am_mlT_2_0, ct_Ml 2 e.1 e.2.1 e.2.2 := List.forall_mem_cons.mpr ⟨Or.inr (Or.inr (Or.inr (Or.inr (Or.inr (Or.inr (Or.inl ⟨rfl, q327⟩)))))), fun _ h => absurd h List.not_mem_nil⟩
theorem ct_ml0_2 : ∀ e ∈ am_mlT_2, ct_Ml 2 e.1 e.2.1 e.2.2 := fun e h => ct_ml0_2_0 e h
theorem ct_ml0_3_0 : ∀ e ∈ am_mlT_3_0, ct_Ml 3 e.1 e.2.1 e.2.2 := List.forall_mem_cons.mpr ⟨Or.inr (Or.inr (Or.inr (Or.inr (Or.inr (Or.inr (Or.inl ⟨rfl, q381⟩)))))), List.forall_mem_cons.mpr ⟨Or.inr (Or.inr (Or.inl ⟨rfl, q385, q386, rfl, rfl⟩)), List.forall_mem_cons.mpr ⟨Or.inl ⟨rfl, q1346, q1347, q1348⟩, List.forall_mem_cons.mpr ⟨Or.inr (Or.inr (Or.inr (Or.inr (Or.inl ⟨rfl, ⟨_, q1331⟩, q1332⟩)))), fun _ h => absurd h List.not_mem_nil⟩⟩⟩⟩
theorem ct_ml0_3 : ∀ e ∈ am_mlT_3, ct_Ml 3 e.1 e.2.1 e.2.2 := fun e h => ct_ml0_3_0 e h
theorem ct_ml0_4_0 : ∀ e ∈ am_mlT_4_0, ct_Ml 4 e.1 e.2.1 e.2.2 := List.forall_mem_cons.mpr ⟨Or.inr (Or.inr (Or.inr (Or.inr (Or.inr (Or.inr (Or.inl ⟨rfl, q388⟩)))))), List.forall_mem_cons.mpr ⟨Or.inr (Or.inr (Or.inl ⟨rfl, q391, q392, rfl, rfl⟩)), List.forall_mem_cons.mpr ⟨Or.inl ⟨rfl, q3039, q3040, q3041⟩, List.forall_mem_cons.mpr ⟨Or.inr (Or.inr (Or.inr (Or.inr (Or.inl ⟨rfl, ⟨_, q3043⟩, q1332⟩)))), List.forall_mem_cons.mpr ⟨Or.inl ⟨rfl, q3035, q3036, q3037⟩, fun _ h => absurd h List.not_mem_nil⟩⟩⟩⟩⟩
theorem ct_ml0_4 : ∀ e ∈ am_mlT_4, ct_Ml 4 e.1 e.2.1 e.2.2 := fun e h => ct_ml0_4_0 e h
theorem ct_ml0_5_0 : ∀ e ∈ am_mlT_5_0, ct_Ml 5 e.1 e.2.1 e.2.2 := List.forall_mem_cons.mpr ⟨Or.inr (Or.inr (Or.inr (Or.inr (Or.inr (Or.inr (Or.inl ⟨rfl, q394⟩)))))), List.forall_mem_cons.mpr ⟨Or.inr (Or.inl ⟨rfl, q1502, q1503⟩), List.forall_mem_cons.mpr ⟨Or.inl ⟨rfl, q2807, q2809, qs231⟩, List.forall_mem_cons.mpr ⟨Or.inl ⟨rfl, q2816, q2818, qs233⟩, List.forall_mem_cons.mpr ⟨Or.inl ⟨rfl, q2811, q1796, qs42⟩, List.forall_mem_cons.mpr ⟨Or.inr (Or.inl ⟨rfl, q2820, q2821⟩), List.forall_mem_cons.mpr ⟨Or.inl ⟨rfl, q2823, q2825, qs234⟩, List.forall_mem_cons.mpr ⟨Or.inl ⟨rfl, q2846, q2848, qs237⟩, List.forall_mem_cons.mpr ⟨Or.inl ⟨rfl, q2863, q2865, qs240⟩, List.forall_mem_cons.mpr ⟨Or.inr (Or.inl ⟨rfl, q2827, q1500⟩), List.forall_mem_cons.mpr ⟨Or.inl ⟨rfl, q2832, q2834, qs236⟩, List.forall_mem_cons.mpr ⟨Or.inl ⟨rfl, q2836, q2837, q2838⟩, List.forall_mem_cons.mpr ⟨Or.inl ⟨rfl, q2840, q2841, q2842⟩, List.forall_mem_cons.mpr ⟨Or.inl ⟨rfl, q2844, q908, q909⟩, List.forall_mem_cons.mpr ⟨Or.inl ⟨rfl, q2845, q918, q919⟩, List.forall_mem_cons.mpr ⟨Or.inr (Or.inl ⟨rfl, q2850, q2851⟩), List.forall_mem_cons.mpr ⟨Or.inl ⟨rfl, q2853, q2855, qs238⟩, List.forall_mem_cons.mpr ⟨Or.inr (Or.inl ⟨rfl, q2867, q2868⟩), fun _ h => absurd h List.not_mem_nil⟩⟩⟩⟩⟩⟩⟩⟩⟩⟩⟩⟩⟩⟩⟩⟩⟩⟩
theorem ct_ml0_5 : ∀ e ∈ am_mlT_5, ct_Ml 5 e.1 e.2.1 e.2.2 := fun e h => ct_ml0_5_0 e h
theorem ct_ml0_6_0 : ∀ e ∈ am_mlT_6_0, ct_Ml 6 e.1 e.2.1 e.2.2 := List.forall_mem_cons.mpr ⟨Or.inr (Or.inr (Or.inr (Or.inr (Or.inr (Or.inr (Or.inl ⟨rfl, q515⟩)))))), List.forall_mem_cons.mpr ⟨Or.inr (Or.inr (Or.inl ⟨rfl, q555, q556, rfl, rfl⟩)), List.forall_mem_cons.mpr ⟨Or.inl ⟨rfl, q2883, q2885, qs243⟩, List.forall_mem_cons.mpr ⟨Or.inl ⟨rfl, q2879, q2881, qs242⟩, List.forall_mem_cons.mpr ⟨Or.inl ⟨rfl, q2875, q2877, qs241⟩, List.forall_mem_cons.mpr ⟨Or.inl ⟨rfl, q2887, q2889, qs244⟩, List.forall_mem_cons.mpr ⟨Or.inl ⟨rfl, q2891, q2893, qs245⟩, List.forall_mem_cons.mpr ⟨Or.inl ⟨rfl, q2895, q2897, qs246⟩, List.forall_mem_cons.mpr ⟨Or.inl ⟨rfl, q2983, q2985, qs268⟩, List.forall_mem_cons.mpr ⟨Or.inl ⟨rfl, q2899, q2901, qs247⟩, List.forall_mem_cons.mpr ⟨Or.inl ⟨rfl, q2947, q2949, qs259⟩, List.forall_mem_cons.mpr ⟨Or.inl ⟨rfl, q2971, q2973, qs265⟩, List.forall_mem_cons.mpr ⟨Or.inl ⟨rfl, q2911, q2913, qs250⟩, List.forall_mem_cons.mpr ⟨Or.inl ⟨rfl, q2951, q2953, qs260⟩, List.forall_mem_cons.mpr ⟨Or.inl ⟨rfl, q2995, q2997, qs271⟩, List.forall_mem_cons.mpr ⟨Or.inl ⟨rfl, q2959, q2961, qs262⟩, List.forall_mem_cons.mpr ⟨Or.inl ⟨rfl, q2923, q2925, qs253⟩, List.forall_mem_cons.mpr ⟨Or.inl ⟨rfl, q2955, q2957, qs261⟩, List.forall_mem_cons.mpr ⟨Or.inl ⟨rfl, q2999, q3001, qs272⟩, List.forall_mem_cons.mpr ⟨Or.inl ⟨rfl, q2935, q2937, qs256⟩, List.forall_mem_cons.mpr ⟨Or.inl ⟨rfl, q2943, q2945, qs258⟩, List.forall_mem_cons.mpr ⟨Or.inl ⟨rfl, q3003, q3005, qs273⟩, List.forall_mem_cons.mpr ⟨Or.inl ⟨rfl, q3007, q3009, qs274⟩, List.forall_mem_cons.mpr ⟨Or.inl ⟨rfl, q3019, q3021, qs277⟩, List.forall_mem_cons.mpr ⟨Or.inl ⟨rfl, q3023, q3025, qs278⟩, List.forall_mem_cons.mpr ⟨Or.inl ⟨rfl, q2915, q2917, qs251⟩, List.forall_mem_cons.mpr ⟨Or.inl ⟨rfl, q2919, q2921, qs252⟩, List.forall_mem_cons.mpr ⟨Or.inl ⟨rfl, q2939, q2941, qs257⟩, fun _ h => absurd h List.not_mem_nil⟩⟩⟩⟩⟩⟩⟩⟩⟩⟩⟩⟩⟩⟩⟩⟩⟩⟩⟩⟩⟩⟩⟩⟩⟩⟩⟩⟩
theorem ct_ml0_6 : ∀ e ∈ am_mlT_6, ct_Ml 6 e.1 e.2.1 e.2.2 := fun e h => ct_ml0_6_0 e h
theorem ct_ml0_7_0 : ∀ e ∈ am_mlT_7_0, ct_Ml 7 e.1 e.2.1 e.2.2 := List.forall_mem_cons.mpr ⟨Or.inr (Or.inr (Or.inl ⟨rfl, q558, q559, rfl, rfl⟩)), fun _ h => absurd h List.not_mem_nil⟩
theorem ct_ml0_7 : ∀ e ∈ am_mlT_7, ct_Ml 7 e.1 e.2.1 e.2.2 := fun e h => ct_ml0_7_0 e h
theorem ct_ml0_8_0 : ∀ e ∈ am_mlT_8_0, ct_Ml 8 e.1 e.2.1 e.2.2 := List.forall_mem_cons.mpr ⟨Or.inr (Or.inr (Or.inr (Or.inr (Or.inr (Or.inr (Or.inl ⟨rfl, q599⟩)))))), List.forall_mem_cons.mpr ⟨Or.inr (Or.inr (Or.inl ⟨rfl, q601, q556, rfl, rfl⟩)), List.forall_mem_cons.mpr ⟨Or.inr (Or.inr (Or.inr (Or.inr (Or.inr (Or.inl ⟨rfl, ⟨_, q604⟩, q605, rfl, rfl⟩))))), List.forall_mem_cons.mpr ⟨Or.inr (Or.inr (Or.inr (Or.inr (Or.inr (Or.inl ⟨rfl, ⟨_, q635⟩, q636, rfl, rfl⟩))))), List.forall_mem_cons.mpr ⟨Or.inl ⟨rfl, q1676, q1678, qs23⟩, List.forall_mem_cons.mpr ⟨Or.inl ⟨rfl, q1692, q1693, q1694⟩, List.forall_mem_cons.mpr ⟨Or.inl ⟨rfl, q1654, q1656, qs18⟩, List.forall_mem_cons.mpr ⟨Or.inl ⟨rfl, q1505, q1506, q1507⟩, List.forall_mem_cons.mpr ⟨Or.inl ⟨rfl, q1616, q1617, q1618⟩, List.forall_mem_cons.mpr ⟨Or.inl ⟨rfl, q1705, q1707, qs28⟩, List.forall_mem_cons.mpr ⟨Or.inl ⟨rfl, q1425, q1426, q1427⟩, List.forall_mem_cons.mpr ⟨Or.inr (Or.inr (Or.inr (Or.inr (Or.inl ⟨rfl, ⟨_, q1494⟩, q1495⟩)))), List.forall_mem_cons.mpr ⟨Or.inl ⟨rfl, q1375, q1376, q1377⟩, List.forall_mem_cons.mpr ⟨Or.inl ⟨rfl, q1379, q1380, q1381⟩, List.forall_mem_cons.mpr ⟨Or.inl ⟨rfl, q1383, q1384, q1385⟩, List.forall_mem_cons.mpr ⟨Or.inl ⟨rfl, q1421, q1423, qs11⟩, List.forall_mem_cons.mpr ⟨Or.inl ⟨rfl, q1490, q1492, qs12⟩, List.forall_mem_cons.mpr ⟨Or.inl ⟨rfl, q1629, q1631, qs13⟩, List.forall_mem_cons.mpr ⟨Or.inl ⟨rfl, q1371, q1373, qs10⟩, List.forall_mem_cons.mpr ⟨Or.inl ⟨rfl, q1637, q1639, qs14⟩, List.forall_mem_cons.mpr ⟨Or.inl ⟨rfl, q1817, q1818, q1819⟩, List.forall_mem_cons.mpr ⟨Or.inl ⟨rfl, q1781, q1782, q1783⟩, List.forall_mem_cons.mpr ⟨Or.inl ⟨rfl, q1645, q1647, qs16⟩, List.forall_mem_cons.mpr ⟨Or.inl ⟨rfl, q1649, q1651, qs17⟩, List.forall_mem_cons.mpr ⟨Or.inl ⟨rfl, q1641, q1643, qs15⟩, List.forall_mem_cons.mpr ⟨Or.inr (Or.inr (Or.inr (Or.inr (Or.inl ⟨rfl, ⟨_, q1653⟩, q1332⟩)))), List.forall_mem_cons.mpr ⟨Or.inl ⟨rfl, q1672, q1674, qs22⟩, List.forall_mem_cons.mpr ⟨Or.inl ⟨rfl, q1680, q1682, qs24⟩, List.forall_mem_cons.mpr ⟨Or.inl ⟨rfl, q2253, q2255, qs130⟩, List.forall_mem_cons.mpr ⟨Or.inl ⟨rfl, q2274, q2276, qs135⟩, List.forall_mem_cons.mpr ⟨Or.inl ⟨rfl, q2482, q2484, qs186⟩, List.forall_mem_cons.mpr ⟨Or.inl ⟨rfl, q2298, q2300, qs141⟩, List.forall_mem_cons.mpr ⟨Or.inl ⟨rfl, q1684, q1686, qs25⟩, List.forall_mem_cons.mpr ⟨Or.inl ⟨rfl, q1701, q1703, qs27⟩, List.forall_mem_cons.mpr ⟨Or.inl ⟨rfl, q1688, q1690, qs26⟩, List.forall_mem_cons.mpr ⟨Or.inl ⟨rfl, q1717, q1719, qs31⟩, List.forall_mem_cons.mpr ⟨Or.inl ⟨rfl, q2170, q2172, qs111⟩, List.forall_mem_cons.mpr ⟨Or.inl ⟨rfl, q2178, q2180, qs113⟩, List.forall_mem_cons.mpr ⟨Or.inl ⟨rfl, q1873, q1875, qs56⟩, List.forall_mem_cons.mpr ⟨Or.inl ⟨rfl, q1737, q1739, qs36⟩, fun _ h => absurd h List.not_mem_nil⟩⟩⟩⟩⟩⟩⟩⟩⟩⟩⟩⟩⟩⟩⟩⟩⟩⟩⟩⟩⟩⟩⟩⟩⟩⟩⟩⟩⟩⟩⟩⟩⟩⟩⟩⟩⟩⟩⟩⟩
theorem ct_ml0_8_1 : ∀ e ∈ am_mlT_8_1, ct_Ml 8 e.1 e.2.1 e.2.2 := List.forall_mem_cons.mpr ⟨Or.inl ⟨rfl, q2182, q2184, qs114⟩, List.forall_mem_cons.mpr ⟨Or.inl ⟨rfl, q2186, q2188, qs115⟩, List.forall_mem_cons.mpr ⟨Or.inl ⟨rfl, q1798, q1799, q1800⟩, List.forall_mem_cons.mpr ⟨Or.inr (Or.inr (Or.inr (Or.inr (Or.inr (Or.inr (Or.inr (Or.inl ⟨rfl, q1745⟩))))))), List.forall_mem_cons.mpr ⟨Or.inl ⟨rfl, q2194, q2196, qs117⟩, List.forall_mem_cons.mpr ⟨Or.inl ⟨rfl, q2044, q2045, q2046⟩, List.forall_mem_cons.mpr ⟨Or.inl ⟨rfl, q1790, q1792, qs41⟩, List.forall_mem_cons.mpr ⟨Or.inr (Or.inl ⟨rfl, q2198, q2199⟩), List.forall_mem_cons.mpr ⟨Or.inl ⟨rfl, q1802, q1803, q1804⟩, List.forall_mem_cons.mpr ⟨Or.inl ⟨rfl, q1966, q1967, q1968⟩, List.forall_mem_cons.mpr ⟨Or.inl ⟨rfl, q2257, q2259, qs131⟩, List.forall_mem_cons.mpr ⟨Or.inl ⟨rfl, q2306, q2308, qs143⟩, List.forall_mem_cons.mpr ⟨Or.inl ⟨rfl, q2322, q2324, qs147⟩, List.forall_mem_cons.mpr ⟨Or.inl ⟨rfl, q2474, q2476, qs184⟩, List.forall_mem_cons.mpr ⟨Or.inr (Or.inr (Or.inr (Or.inr (Or.inr (Or.inl ⟨rfl, ⟨_, q1747⟩, q1748, rfl, rfl⟩))))), List.forall_mem_cons.mpr ⟨Or.inl ⟨rfl, q1741, q1743, qs37⟩, List.forall_mem_cons.mpr ⟨Or.inl ⟨rfl, q1826, q1828, qs45⟩, List.forall_mem_cons.mpr ⟨Or.inl ⟨rfl, q1834, q1823, q1824⟩, List.forall_mem_cons.mpr ⟨Or.inl ⟨rfl, q1813, q1815, qs44⟩, List.forall_mem_cons.mpr ⟨Or.inl ⟨rfl, q1777, q1779, qs39⟩, List.forall_mem_cons.mpr ⟨Or.inl ⟨rfl, q2131, q2133, qs103⟩, List.forall_mem_cons.mpr ⟨Or.inl ⟨rfl, q1721, q1723, qs32⟩, List.forall_mem_cons.mpr ⟨Or.inr (Or.inr (Or.inr (Or.inl ⟨rfl, ⟨_, q1794⟩, q1796, qs42⟩))), List.forall_mem_cons.mpr ⟨Or.inr (Or.inr (Or.inr (Or.inr (Or.inr (Or.inr (Or.inr (Or.inr (Or.inr (Or.inl ⟨rfl, q1806⟩))))))))), List.forall_mem_cons.mpr ⟨Or.inl ⟨rfl, q1725, q1727, qs33⟩, List.forall_mem_cons.mpr ⟨Or.inl ⟨rfl, q2104, q2106, qs99⟩, List.forall_mem_cons.mpr ⟨Or.inl ⟨rfl, q2154, q2156, qs108⟩, List.forall_mem_cons.mpr ⟨Or.inl ⟨rfl, q1857, q1859, qs52⟩, List.forall_mem_cons.mpr ⟨Or.inl ⟨rfl, q2127, q2129, qs102⟩, List.forall_mem_cons.mpr ⟨Or.inl ⟨rfl, q1843, q1845, qs49⟩, List.forall_mem_cons.mpr ⟨Or.inl ⟨rfl, q2108, q2110, qs100⟩, List.forall_mem_cons.mpr ⟨Or.inl ⟨rfl, q1852, q1854, qs51⟩, List.forall_mem_cons.mpr ⟨Or.inl ⟨rfl, q1729, q1731, qs34⟩, List.forall_mem_cons.mpr ⟨Or.inl ⟨rfl, q2100, q2102, qs98⟩, List.forall_mem_cons.mpr ⟨Or.inl ⟨rfl, q1733, q1735, qs35⟩, List.forall_mem_cons.mpr ⟨Or.inl ⟨rfl, q2079, q2080, q2081⟩, List.forall_mem_cons.mpr ⟨Or.inl ⟨rfl, q2084, q2086, qs97⟩, List.forall_mem_cons.mpr ⟨Or.inl ⟨rfl, q2088, q2089, q2090⟩, List.forall_mem_cons.mpr ⟨Or.inl ⟨rfl, q2140, q2142, qs105⟩, List.forall_mem_cons.mpr ⟨Or.inl ⟨rfl, q1869, q1871, qs55⟩, fun _ h => absurd h List.not_mem_nil⟩⟩⟩⟩⟩⟩⟩⟩⟩⟩⟩⟩⟩⟩⟩⟩⟩⟩⟩⟩⟩⟩⟩⟩⟩⟩⟩⟩⟩⟩⟩⟩⟩⟩⟩⟩⟩⟩⟩⟩
theorem ct_ml0_8_2 : ∀ e ∈ am_mlT_8_2, ct_Ml 8 e.1 e.2.1 e.2.2 := List.forall_mem_cons.mpr ⟨Or.inl ⟨rfl, q1877, q1879, qs57⟩, List.forall_mem_cons.mpr ⟨Or.inl ⟨rfl, q1893, q1895, qs61⟩, List.forall_mem_cons.mpr ⟨Or.inl ⟨rfl, q1897, q1899, qs62⟩, List.forall_mem_cons.mpr ⟨Or.inl ⟨rfl, q1916, q1918, qs66⟩, List.forall_mem_cons.mpr ⟨Or.inl ⟨rfl, q1937, q1939, qs70⟩, List.forall_mem_cons.mpr ⟨Or.inl ⟨rfl, q1889, q1891, qs60⟩, List.forall_mem_cons.mpr ⟨Or.inl ⟨rfl, q1941, q1942, q1943⟩, List.forall_mem_cons.mpr ⟨Or.inl ⟨rfl, q1962, q1964, qs75⟩, List.forall_mem_cons.mpr ⟨Or.inl ⟨rfl, q1958, q1960, qs74⟩, List.forall_mem_cons.mpr ⟨Or.inl ⟨rfl, q2052, q2054, qs92⟩, List.forall_mem_cons.mpr ⟨Or.inl ⟨rfl, q2059, q2061, qs93⟩, List.forall_mem_cons.mpr ⟨Or.inr (Or.inl ⟨rfl, q1986, q1987⟩), List.forall_mem_cons.mpr ⟨Or.inr (Or.inl ⟨rfl, q1993, q1994⟩), List.forall_mem_cons.mpr ⟨Or.inl ⟨rfl, q1996, q1998, qs80⟩, List.forall_mem_cons.mpr ⟨Or.inr (Or.inl ⟨rfl, q1989, q1990⟩), List.forall_mem_cons.mpr ⟨Or.inr (Or.inr (Or.inr (Or.inr (Or.inr (Or.inr (Or.inr (Or.inr (Or.inr (Or.inr (Or.inl ⟨rfl, q1992⟩)))))))))), List.forall_mem_cons.mpr ⟨Or.inl ⟨rfl, q2048, q2050, qs91⟩, List.forall_mem_cons.mpr ⟨Or.inr (Or.inr (Or.inr (Or.inr (Or.inr (Or.inr (Or.inr (Or.inr (Or.inr (Or.inr (Or.inr ⟨rfl, q2009⟩)))))))))), List.forall_mem_cons.mpr ⟨Or.inl ⟨rfl, q2467, q2469, qs183⟩, List.forall_mem_cons.mpr ⟨Or.inl ⟨rfl, q2326, q2328, qs148⟩, List.forall_mem_cons.mpr ⟨Or.inl ⟨rfl, q2330, q2332, qs149⟩, List.forall_mem_cons.mpr ⟨Or.inl ⟨rfl, q2334, q2336, qs150⟩, List.forall_mem_cons.mpr ⟨Or.inl ⟨rfl, q2398, q2400, qs166⟩, List.forall_mem_cons.mpr ⟨Or.inl ⟨rfl, q2418, q2420, qs171⟩, List.forall_mem_cons.mpr ⟨Or.inl ⟨rfl, q2422, q2424, qs172⟩, List.forall_mem_cons.mpr ⟨Or.inl ⟨rfl, q2430, q2432, qs174⟩, List.forall_mem_cons.mpr ⟨Or.inl ⟨rfl, q2402, q2404, qs167⟩, List.forall_mem_cons.mpr ⟨Or.inl ⟨rfl, q2434, q2436, qs175⟩, List.forall_mem_cons.mpr ⟨Or.inl ⟨rfl, q2438, q2440, qs176⟩, List.forall_mem_cons.mpr ⟨Or.inl ⟨rfl, q2442, q2444, qs177⟩, List.forall_mem_cons.mpr ⟨Or.inl ⟨rfl, q2446, q2448, qs178⟩, List.forall_mem_cons.mpr ⟨Or.inl ⟨rfl, q2450, q2452, qs179⟩, List.forall_mem_cons.mpr ⟨Or.inl ⟨rfl, q2455, q2457, qs180⟩, List.forall_mem_cons.mpr ⟨Or.inl ⟨rfl, q2394, q2396, qs165⟩, List.forall_mem_cons.mpr ⟨Or.inl ⟨rfl, q2338, q2340, qs151⟩, List.forall_mem_cons.mpr ⟨Or.inl ⟨rfl, q2386, q2388, qs163⟩, List.forall_mem_cons.mpr ⟨Or.inl ⟨rfl, q2342, q2344, qs152⟩, List.forall_mem_cons.mpr ⟨Or.inl ⟨rfl, q2370, q2372, qs159⟩, List.forall_mem_cons.mpr ⟨Or.inl ⟨rfl, q2350, q2352, qs154⟩, fun _ h => absurd h List.not_mem_nil⟩⟩⟩⟩⟩⟩⟩⟩⟩⟩⟩⟩⟩⟩⟩⟩⟩⟩⟩⟩⟩⟩⟩⟩⟩⟩⟩⟩⟩⟩⟩⟩⟩⟩⟩⟩⟩⟩⟩
theorem ct_ml0_8 : ∀ e ∈ am_mlT_8, ct_Ml 8 e.1 e.2.1 e.2.2 := fun e h => (List.mem_append.mp h).elim (ct_ml0_8_0 e) (fun h => (List.mem_append.mp h).elim (ct_ml0_8_1 e) (fun h => ct_ml0_8_2 e h))
theorem ct_ml0_9_0 : ∀ e ∈ am_mlT_9_0, ct_Ml 9 e.1 e.2.1 e.2.2 := List.forall_mem_cons.mpr ⟨Or.inr (Or.inr (Or.inr (Or.inr (Or.inr (Or.inr (Or.inl ⟨rfl, q607⟩)))))), List.forall_mem_cons.mpr ⟨Or.inr (Or.inr (Or.inr (Or.inr (Or.inr (Or.inr (Or.inr (Or.inl ⟨rfl, q1387⟩))))))), List.forall_mem_cons.mpr ⟨Or.inr (Or.inr (Or.inr (Or.inr (Or.inr (Or.inl ⟨rfl, ⟨_, q1430⟩, q1431, rfl, rfl⟩))))), List.forall_mem_cons.mpr ⟨Or.inl ⟨rfl, q1483, q1484, q1485⟩, List.forall_mem_cons.mpr ⟨Or.inr (Or.inr (Or.inr (Or.inr (Or.inr (Or.inl ⟨rfl, ⟨_, q1510⟩, q1511, rfl, rfl⟩))))), List.forall_mem_cons.mpr ⟨Or.inl ⟨rfl, q1612, q1613, q1614⟩, List.forall_mem_cons.mpr ⟨Or.inr (Or.inr (Or.inr (Or.inr (Or.inr (Or.inl ⟨rfl, ⟨_, q1389⟩, q1390, rfl, rfl⟩))))), List.forall_mem_cons.mpr ⟨Or.inl ⟨rfl, q1417, q1418, q1419⟩, fun _ h => absurd h List.not_mem_nil⟩⟩⟩⟩⟩⟩⟩⟩
theorem ct_ml0_9 : ∀ e ∈ am_mlT_9, ct_Ml 9 e.1 e.2.1 e.2.2 := fun e h => ct_ml0_9_0 e h
theorem ct_ml0_10_0 : ∀ e ∈ am_mlT_10_0, ct_Ml 10 e.1 e.2.1 e.2.2 := List.forall_mem_cons.mpr ⟨Or.inr (Or.inr (Or.inr (Or.inr (Or.inr (Or.inr (Or.inl ⟨rfl, q638⟩)))))), List.forall_mem_cons.mpr ⟨Or.inl ⟨rfl, q1821, q1782, q1783⟩, List.forall_mem_cons.mpr ⟨Or.inl ⟨rfl, q1822, q1823, q1824⟩, List.forall_mem_cons.mpr ⟨Or.inl ⟨rfl, q2083, q1818, q1819⟩, List.forall_mem_cons.mpr ⟨Or.inl ⟨rfl, q2092, q2093, q2094⟩, List.forall_mem_cons.mpr ⟨Or.inl ⟨rfl, q2096, q2097, q2098⟩, fun _ h => absurd h List.not_mem_nil⟩⟩⟩⟩⟩⟩
theorem ct_ml0_10 : ∀ e ∈ am_mlT_10, ct_Ml 10 e.1 e.2.1 e.2.2 := fun e h => ct_ml0_10_0 e h
theorem ct_ml0_11_0 : ∀ e ∈ am_mlT_11_0, ct_Ml 11 e.1 e.2.1 e.2.2 := List.forall_mem_cons.mpr ⟨Or.inr (Or.inr (Or.inr (Or.inr (Or.inr (Or.inr (Or.inl ⟨rfl, q836⟩)))))), List.forall_mem_cons.mpr ⟨Or.inl ⟨rfl, q899, q901, qs1⟩, List.forall_mem_cons.mpr ⟨Or.inl ⟨rfl, q903, q905, qs2⟩, List.forall_mem_cons.mpr ⟨Or.inl ⟨rfl, q1052, q1053, q1054⟩, List.forall_mem_cons.mpr ⟨Or.inl ⟨rfl, q907, q908, q909⟩, List.forall_mem_cons.mpr ⟨Or.inl ⟨rfl, q917, q918, q919⟩, List.forall_mem_cons.mpr ⟨Or.inl ⟨rfl, q955, q956, q957⟩, List.forall_mem_cons.mpr ⟨Or.inl ⟨rfl, q1039, q1041, qs3⟩, List.forall_mem_cons.mpr ⟨Or.inl ⟨rfl, q1043, q1044, q1045⟩, List.forall_mem_cons.mpr ⟨Or.inl ⟨rfl, q1048, q1050, qs4⟩, List.forall_mem_cons.mpr ⟨Or.inl ⟨rfl, q1060, q1062, qs5⟩, List.forall_mem_cons.mpr ⟨Or.inr (Or.inl ⟨rfl, q1064, q1065⟩), fun _ h => absurd h List.not_mem_nil⟩⟩⟩⟩⟩⟩⟩⟩⟩⟩⟩⟩
theorem ct_ml0_11 : ∀ e ∈ am_mlT_11, ct_Ml 11 e.1 e.2.1 e.2.2 := fun e h => ct_ml0_11_0 e h
theorem ct_ml0_12_0 : ∀ e ∈ am_mlT_12_0, ct_Ml 12 e.1 e.2.1 e.2.2 := List.forall_mem_cons.mpr ⟨Or.inr (Or.inr (Or.inr (Or.inr (Or.inr (Or.inr (Or.inl ⟨rfl, q1101⟩)))))), List.forall_mem_cons.mpr ⟨Or.inr (Or.inr (Or.inl ⟨rfl, q1104, q1105, rfl, rfl⟩)), List.forall_mem_cons.mpr ⟨Or.inr (Or.inr (Or.inr (Or.inr (Or.inr (Or.inr (Or.inr (Or.inl ⟨rfl, q2502⟩))))))), List.forall_mem_cons.mpr ⟨Or.inl ⟨rfl, q2504, q2505, q2506⟩, List.forall_mem_cons.mpr ⟨Or.inl ⟨rfl, q2522, q2523, q2524⟩, List.forall_mem_cons.mpr ⟨Or.inl ⟨rfl, q2722, q2724, qs223⟩, List.forall_mem_cons.mpr ⟨Or.inl ⟨rfl, q2729, q2731, qs224⟩, List.forall_mem_cons.mpr ⟨Or.inl ⟨rfl, q2727, q2546, q2547⟩, List.forall_mem_cons.mpr ⟨Or.inl ⟨rfl, q2728, q2646, q2647⟩, fun _ h => absurd h List.not_mem_nil⟩⟩⟩⟩⟩⟩⟩⟩⟩
theorem ct_ml0_12 : ∀ e ∈ am_mlT_12, ct_Ml 12 e.1 e.2.1 e.2.2 := fun e h => ct_ml0_12_0 e h
theorem ct_ml0_13_0 : ∀ e ∈ am_mlT_13_0, ct_Ml 13 e.1 e.2.1 e.2.2 := List.forall_mem_cons.mpr ⟨Or.inr (Or.inr (Or.inr (Or.inr (Or.inr (Or.inr (Or.inl ⟨rfl, q1107⟩)))))), List.forall_mem_cons.mpr ⟨Or.inl ⟨rfl, q2530, q2531, q2532⟩, List.forall_mem_cons.mpr ⟨Or.inl ⟨rfl, q2508, q2509, q2510⟩, List.forall_mem_cons.mpr ⟨Or.inl ⟨rfl, q2526, q2528, qs187⟩, List.forall_mem_cons.mpr ⟨Or.inl ⟨rfl, q2545, q2546, q2547⟩, List.forall_mem_cons.mpr ⟨Or.inl ⟨rfl, q2629, q2631, qs207⟩, List.forall_mem_cons.mpr ⟨Or.inl ⟨rfl, q2541, q2543, qs189⟩, List.forall_mem_cons.mpr ⟨Or.inl ⟨rfl, q2617, q2619, qs204⟩, List.forall_mem_cons.mpr ⟨Or.inl ⟨rfl, q2625, q2627, qs206⟩, List.forall_mem_cons.mpr ⟨Or.inl ⟨rfl, q2609, q2611, qs202⟩, List.forall_mem_cons.mpr ⟨Or.inr (Or.inl ⟨rfl, q2579, q2580⟩), List.forall_mem_cons.mpr ⟨Or.inl ⟨rfl, q2645, q2646, q2647⟩, List.forall_mem_cons.mpr ⟨Or.inr (Or.inl ⟨rfl, q2534, q2535⟩), List.forall_mem_cons.mpr ⟨Or.inl ⟨rfl, q2585, q2587, qs196⟩, List.forall_mem_cons.mpr ⟨Or.inl ⟨rfl, q2589, q2591, qs197⟩, List.forall_mem_cons.mpr ⟨Or.inl ⟨rfl, q2549, q2551, qs190⟩, List.forall_mem_cons.mpr ⟨Or.inl ⟨rfl, q2553, q2555, qs191⟩, List.forall_mem_cons.mpr ⟨Or.inl ⟨rfl, q2593, q2595, qs198⟩, List.forall_mem_cons.mpr ⟨Or.inl ⟨rfl, q2557, q2559, qs192⟩, List.forall_mem_cons.mpr ⟨Or.inl ⟨rfl, q2565, q2567, qs194⟩, List.forall_mem_cons.mpr ⟨Or.inl ⟨rfl, q2670, q2672, qs216⟩, List.forall_mem_cons.mpr ⟨Or.inl ⟨rfl, q2682, q2684, qs219⟩, List.forall_mem_cons.mpr ⟨Or.inl ⟨rfl, q2597, q2599, qs199⟩, List.forall_mem_cons.mpr ⟨Or.inl ⟨rfl, q2613, q2615, qs203⟩, List.forall_mem_cons.mpr ⟨Or.inl ⟨rfl, q2621, q2623, qs205⟩, List.forall_mem_cons.mpr ⟨Or.inl ⟨rfl, q2633, q2635, qs208⟩, List.forall_mem_cons.mpr ⟨Or.inl ⟨rfl, q2637, q2639, qs209⟩, List.forall_mem_cons.mpr ⟨Or.inl ⟨rfl, q2641, q2643, qs210⟩, List.forall_mem_cons.mpr ⟨Or.inl ⟨rfl, q2650, q2652, qs211⟩, List.forall_mem_cons.mpr ⟨Or.inl ⟨rfl, q2654, q2656, qs212⟩, List.forall_mem_cons.mpr ⟨Or.inl ⟨rfl, q2605, q2607, qs201⟩, List.forall_mem_cons.mpr ⟨Or.inl ⟨rfl, q2649, q2505, q2506⟩, List.forall_mem_cons.mpr ⟨Or.inl ⟨rfl, q2561, q2563, qs193⟩, List.forall_mem_cons.mpr ⟨Or.inr (Or.inl ⟨rfl, q2573, q2574⟩), List.forall_mem_cons.mpr ⟨Or.inl ⟨rfl, q2662, q2664, qs214⟩, List.forall_mem_cons.mpr ⟨Or.inr (Or.inl ⟨rfl, q2576, q2577⟩), List.forall_mem_cons.mpr ⟨Or.inl ⟨rfl, q2674, q2676, qs217⟩, List.forall_mem_cons.mpr ⟨Or.inl ⟨rfl, q2678, q2680, qs218⟩, List.forall_mem_cons.mpr ⟨Or.inl ⟨rfl, q2686, q2687, q2688⟩, List.forall_mem_cons.mpr ⟨Or.inl ⟨rfl, q2690, q2692, qs220⟩, fun _ h => absurd h List.not_mem_nil⟩⟩⟩⟩⟩⟩⟩⟩⟩⟩⟩⟩⟩⟩⟩⟩⟩⟩⟩⟩⟩⟩⟩⟩⟩⟩⟩⟩⟩⟩⟩⟩⟩⟩⟩⟩⟩⟩⟩⟩
theorem ct_ml0_13_1 : ∀ e ∈ am_mlT_13_1, ct_Ml 13 e.1 e.2.1 e.2.2 := List.forall_mem_cons.mpr ⟨Or.inl ⟨rfl, q2694, q2696, qs221⟩, List.forall_mem_cons.mpr ⟨Or.inl ⟨rfl, q2698, q2699, q2700⟩, List.forall_mem_cons.mpr ⟨Or.inl ⟨rfl, q2702, q2704, qs222⟩, List.forall_mem_cons.mpr ⟨Or.inl ⟨rfl, q2747, q2749, qs225⟩, List.forall_mem_cons.mpr ⟨Or.inr (Or.inr (Or.inr (Or.inr (Or.inr (Or.inr (Or.inr (Or.inr (Or.inl ⟨rfl, q2707, q2717, q2719, rfl⟩)))))))), List.forall_mem_cons.mpr ⟨Or.inl ⟨rfl, q2751, q2753, qs226⟩, List.forall_mem_cons.mpr ⟨Or.inl ⟨rfl, q2569, q2571, qs195⟩, List.forall_mem_cons.mpr ⟨Or.inl ⟨rfl, q2755, q2757, qs227⟩, List.forall_mem_cons.mpr ⟨Or.inl ⟨rfl, q2759, q2761, qs228⟩, fun _ h => absurd h List.not_mem_nil⟩⟩⟩⟩⟩⟩⟩⟩⟩
theorem ct_ml0_13 : ∀ e ∈ am_mlT_13, ct_Ml 13 e.1 e.2.1 e.2.2 := fun e h => (List.mem_append.mp h).elim (ct_ml0_13_0 e) (fun h => ct_ml0_13_1 e h)
theorem ct_ml0_14_0 : ∀ e ∈ am_mlT_14_0, ct_Ml 14 e.1 e.2.1 e.2.2 := List.forall_mem_cons.mpr ⟨Or.inr (Or.inr (Or.inr (Or.inr (Or.inr (Or.inr (Or.inl ⟨rfl, q1228⟩)))))), fun _ h => absurd h List.not_mem_nil⟩
theorem ct_ml0_14 : ∀ e ∈ am_mlT_14, ct_Ml 14 e.1 e.2.1 e.2.2 := fun e h => ct_ml0_14_0 e h
theorem ct_ml0_15_0 : ∀ e ∈ am_mlT_15_0, ct_Ml 15 e.1 e.2.1 e.2.2 := List.forall_mem_cons.mpr ⟨Or.inr (Or.inr (Or.inr (Or.inr (Or.inr (Or.inr (Or.inl ⟨rfl, q1392⟩)))))), List.forall_mem_cons.mpr ⟨Or.inl ⟨rfl, q1696, q1697, q1698⟩, fun _ h => absurd h List.not_mem_nil⟩⟩
theorem ct_ml0_15 : ∀ e ∈ am_mlT_15, ct_Ml 15 e.1 e.2.1 e.2.2 := fun e h => ct_ml0_15_0 e h
theorem ct_ml0_16_0 : ∀ e ∈ am_mlT_16_0, ct_Ml 16 e.1 e.2.1 e.2.2 := List.forall_mem_cons.mpr ⟨Or.inr (Or.inr (Or.inr (Or.inr (Or.inr (Or.inr (Or.inl ⟨rfl, q1433⟩)))))), fun _ h => absurd h List.not_mem_nil⟩
theorem ct_ml0_16 : ∀ e ∈ am_mlT_16, ct_Ml 16 e.1 e.2.1 e.2.2 := fun e h => ct_ml0_16_0 e h
theorem ct_ml0_17_0 : ∀ e ∈ am_mlT_17_0, ct_Ml 17 e.1 e.2.1 e.2.2 := List.forall_mem_cons.mpr ⟨Or.inr (Or.inr (Or.inr (Or.inr (Or.inr (Or.inr (Or.inl ⟨rfl, q1513⟩)))))), fun _ h => absurd h List.not_mem_nil⟩
theorem ct_ml0_17 : ∀ e ∈ am_mlT_17, ct_Ml 17 e.1 e.2.1 e.2.2 := fun e h => ct_ml0_17_0 e h
theorem ct_ml0_18_0 : ∀ e ∈ am_mlT_18_0, ct_Ml 18 e.1 e.2.1 e.2.2 := List.forall_mem_cons.mpr ⟨Or.inr (Or.inr (Or.inr (Or.inr (Or.inr (Or.inr (Or.inl ⟨rfl, q1750⟩)))))), fun _ h => absurd h List.not_mem_nil⟩
theorem ct_ml0_18 : ∀ e ∈ am_mlT_18, ct_Ml 18 e.1 e.2.1 e.2.2 := fun e h => ct_ml0_18_0 e h
theorem ct_ml0_19_0 : ∀ e ∈ am_mlT_19_0, ct_Ml 19 e.1 e.2.1 e.2.2 := List.forall_mem_cons.mpr ⟨Or.inr (Or.inr (Or.inr (Or.inr (Or.inr (Or.inr (Or.inl ⟨rfl, q997⟩)))))), List.forall_mem_cons.mpr ⟨Or.inl ⟨rfl, q911, q912, q913⟩, List.forall_mem_cons.mpr ⟨Or.inl ⟨rfl, q921, q922, q923⟩, List.forall_mem_cons.mpr ⟨Or.inr (Or.inl ⟨rfl, q925, q926⟩), List.forall_mem_cons.mpr ⟨Or.inl ⟨rfl, q959, q908, q909⟩, List.forall_mem_cons.mpr ⟨Or.inr (Or.inl ⟨rfl, q960, q961⟩), List.forall_mem_cons.mpr ⟨Or.inr (Or.inl ⟨rfl, q1057, q1058⟩), List.forall_mem_cons.mpr ⟨Or.inl ⟨rfl, q1047, q956, q957⟩, List.forall_mem_cons.mpr ⟨Or.inr (Or.inl ⟨rfl, q966, q967⟩), List.forall_mem_cons.mpr ⟨Or.inr (Or.inl ⟨rfl, q933, q934⟩), List.forall_mem_cons.mpr ⟨Or.inr (Or.inl ⟨rfl, q963, q964⟩), fun _ h => absurd h List.not_mem_nil⟩⟩⟩⟩⟩⟩⟩⟩⟩⟩⟩
theorem ct_ml0_19 : ∀ e ∈ am_mlT_19, ct_Ml 19 e.1 e.2.1 e.2.2 := fun e h => ct_ml0_19_0 e h
theorem ct_ml0_20_0 : ∀ e ∈ am_mlT_20_0, ct_Ml 20 e.1 e.2.1 e.2.2 := List.forall_mem_cons.mpr ⟨Or.inr (Or.inl ⟨rfl, q928, q929⟩), List.forall_mem_cons.mpr ⟨Or.inr (Or.inr (Or.inl ⟨rfl, q994, q995, rfl, rfl⟩)), List.forall_mem_cons.mpr ⟨Or.inr (Or.inl ⟨rfl, q972, q973⟩), fun _ h => absurd h List.not_mem_nil⟩⟩⟩
theorem ct_ml0_20 : ∀ e ∈ am_mlT_20, ct_Ml 20 e.1 e.2.1 e.2.2 := fun e h => ct_ml0_20_0 e h
theorem ct_ml0_22_0 : ∀ e ∈ am_mlT_22_0, ct_Ml 22 e.1 e.2.1 e.2.2 := List.forall_mem_cons.mpr ⟨Or.inr (Or.inr (Or.inr (Or.inr (Or.inr (Or.inr (Or.inr (Or.inl ⟨rfl, q984⟩))))))), List.forall_mem_cons.mpr ⟨Or.inr (Or.inr (Or.inr (Or.inr (Or.inr (Or.inr (Or.inr (Or.inr (Or.inr (Or.inr (Or.inl ⟨rfl, q981⟩)))))))))), List.forall_mem_cons.mpr ⟨Or.inr (Or.inl ⟨rfl, q975, q976⟩), List.forall_mem_cons.mpr ⟨Or.inr (Or.inl ⟨rfl, q978, q979⟩), fun _ h => absurd h List.not_mem_nil⟩⟩⟩⟩
theorem ct_ml0_22 : ∀ e ∈ am_mlT_22, ct_Ml 22 e.1 e.2.1 e.2.2 := fun e h => ct_ml0_22_0 e h
theorem ct_ml0_25_0 : ∀ e ∈ am_mlT_25_0, ct_Ml 25 e.1 e.2.1 e.2.2 := List.forall_mem_cons.mpr ⟨Or.inr (Or.inr (Or.inr (Or.inr (Or.inr (Or.inr (Or.inl ⟨rfl, q541⟩)))))), fun _ h => absurd h List.not_mem_nil⟩
theorem ct_ml0_25 : ∀ e ∈ am_mlT_25, ct_Ml 25 e.1 e.2.1 e.2.2 := fun e h => ct_ml0_25_0 e h
theorem ct_ml0_26_0 : ∀ e ∈ am_mlT_26_0, ct_Ml 26 e.1 e.2.1 e.2.2 := List.forall_mem_cons.mpr ⟨Or.inr (Or.inr (Or.inl ⟨rfl, q564, q565, rfl, rfl⟩)), fun _ h => absurd h List.not_mem_nil⟩
theorem ct_ml0_26 : ∀ e ∈ am_mlT_26, ct_Ml 26 e.1 e.2.1 e.2.2 := fun e h => ct_ml0_26_0 e h
theorem ct_ml0_27_0 : ∀ e ∈ am_mlT_27_0, ct_Ml 27 e.1 e.2.1 e.2.2 := List.forall_mem_cons.mpr ⟨Or.inr (Or.inr (Or.inl ⟨rfl, q561, q562, rfl, rfl⟩)), fun _ h => absurd h List.not_mem_nil⟩
theorem ct_ml0_27 : ∀ e ∈ am_mlT_27, ct_Ml 27 e.1 e.2.1 e.2.2 := fun e h => ct_ml0_27_0 e h
theorem ct_ml0 (own : Nat) : ∀ e ∈ am_mlL.getD own [], ct_Ml own e.1 e.2.1 e.2.2 := by
  match own with
  | 0 => exact ct_ml0_0
  | 1 => exact ct_ml0_1
  | 2 => exact ct_ml0_2
  | 3 => exact ct_ml0_3
  | 4 => exact ct_ml0_4
  | 5 => exact ct_ml0_5
  | 6 => exact ct_ml0_6
  | 7 => exact ct_ml0_7
  | 8 => exact ct_ml0_8
  | 9 => exact ct_ml0_9
  | 10 => exact ct_ml0_10
  | 11 => exact ct_ml0_11
  | 12 => exact ct_ml0_12
  | 13 => exact ct_ml0_13
  | 14 => exact ct_ml0_14
  | 15 => exact ct_ml0_15
  | 16 => exact ct_ml0_16
  | 17 => exact ct_ml0_17
  | 18 => exact ct_ml0_18
  | 19 => exact ct_ml0_19
  | 20 => exact ct_ml0_20
  | 21 => exact fun _ h => absurd h List.not_mem_nil
  | 22 => exact ct_ml0_22
  | 23 => exact fun _ h => absurd h List.not_mem_nil
  | 24 => exact fun _ h => absurd h List.not_mem_nil
  | 25 => exact ct_ml0_25
  | 26 => exact ct_ml0_26
  | 27 => exact ct_ml0_27
  | 28 => exact fun _ h => absurd h List.not_mem_nil
  | n + 29 => exact fun _ h => absurd h (by simp [am_mlL])
theorem ct_ml {own x f k : Nat} (h : am_ml own x = some (f, k)) : ct_Ml own x f k := ct_ml0 own _ (ct_lk h)
def ct_rng (own f k : Nat) : Prop := ((k ≠ 6 ∧ k ≠ 7 ∧ k ≠ 9 ∧ k ≠ 10 ∧ k ≠ 11) → 1 ≤ f ∧ f < 300) ∧ own < 29 ∧ (k = 0 ∨ k = 3 ∨ k = 8 → am_own f < 20 ∧ 0 < am_own f)
theorem ct_mr0_0_0 : ∀ e ∈ am_mlT_0_0, ct_rng 0 e.2.1 e.2.2 := List.forall_mem_cons.mpr ⟨⟨fun h => by decide, by decide, fun h => ⟨by decide, by decide⟩⟩, List.forall_mem_cons.mpr ⟨⟨fun h => by decide, by decide, fun h => ⟨by decide, by decide⟩⟩, List.forall_mem_cons.mpr ⟨⟨fun h => by decide, by decide, fun h => absurd h (by decide)⟩, List.forall_mem_cons.mpr ⟨⟨fun h => by decide, by decide, fun h => absurd h (by decide)⟩, List.forall_mem_cons.mpr ⟨⟨fun h => by decide, by decide, fun h => absurd h (by decide)⟩, List.forall_mem_cons.mpr ⟨⟨fun h => by decide, by decide, fun h => absurd h (by decide)⟩, List.forall_mem_cons.mpr ⟨⟨fun h => by decide, by decide, fun h => absurd h (by decide)⟩, List.forall_mem_cons.mpr ⟨⟨fun h => by decide, by decide, fun h => absurd h (by decide)⟩, List.forall_mem_cons.mpr ⟨⟨fun h => by decide, by decide, fun h => absurd h (by decide)⟩, List.forall_mem_cons.mpr ⟨⟨fun h => by decide, by decide, fun h => absurd h (by decide)⟩, List.forall_mem_cons.mpr ⟨⟨fun h => by decide, by decide, fun h => absurd h (by decide)⟩, List.forall_mem_cons.mpr ⟨⟨fun h => by decide, by decide, fun h => absurd h (by decide)⟩, List.forall_mem_cons.mpr ⟨⟨fun h => by decide, by decide, fun h => absurd h (by decide)⟩, List.forall_mem_cons.mpr ⟨⟨fun h => by decide, by decide, fun h => absurd h (by decide)⟩, List.forall_mem_cons.mpr ⟨⟨fun h => by decide, by decide, fun h => absurd h (by decide)⟩, List.forall_mem_cons.mpr ⟨⟨fun h => by decide, by decide, fun h => absurd h (by decide)⟩, List.forall_mem_cons.mpr ⟨⟨fun h => by decide, by decide, fun h => absurd h (by decide)⟩, List.forall_mem_cons.mpr ⟨⟨fun h => by decide, by decide, fun h => absurd h (by decide)⟩, List.forall_mem_cons.mpr ⟨⟨fun h => by decide, by decide, fun h => ⟨by decide, by decide⟩⟩, List.forall_mem_cons.mpr ⟨⟨fun h => by decide, by decide, fun h => ⟨by decide, by decide⟩⟩, List.forall_mem_cons.mpr ⟨⟨fun h => by decide, by decide, fun h => ⟨by decide, by decide⟩⟩, List.forall_mem_cons.mpr ⟨⟨fun h => by decide, by decide, fun h => ⟨by decide, by decide⟩⟩, List.forall_mem_cons.mpr ⟨⟨fun h => by decide, by decide, fun h => ⟨by decide, by decide⟩⟩, List.forall_mem_cons.mpr ⟨⟨fun h => by decide, by decide, fun h => absurd h (by decide)⟩, List.forall_mem_cons.mpr ⟨⟨fun h => by decide, by decide, fun h => ⟨by decide, by decide⟩⟩, List.forall_mem_cons.mpr ⟨⟨fun h => by decide, by decide, fun h => ⟨by decide, by decide⟩⟩, List.forall_mem_cons.mpr ⟨⟨fun h => by decide, by decide, fun h => ⟨by decide, by decide⟩⟩, fun _ h => absurd h List.not_mem_nil⟩⟩⟩⟩⟩⟩⟩⟩⟩⟩⟩⟩⟩⟩⟩⟩⟩⟩⟩⟩⟩⟩⟩⟩⟩⟩⟩
theorem ct_mr0_0 : ∀ e ∈ am_mlT_0, ct_rng 0 e.2.1 e.2.2 := fun e h => ct_mr0_0_0 e h
theorem ct_mr0_1_0 : ∀ e ∈ am_mlT_1_0, ct_rng 1 e.2.1 e.2.2 := List.forall_mem_cons.mpr ⟨⟨fun h => by decide, by decide, fun h => ⟨by decide, by decide⟩⟩, List.forall_mem_cons.mpr ⟨⟨fun h => by decide, by decide, fun h => ⟨by decide, by decide⟩⟩, List.forall_mem_cons.mpr ⟨⟨fun h => by decide, by decide, fun h => absurd h (by decide)⟩, List.forall_mem_cons.mpr ⟨⟨fun h => by exact absurd rfl h.1, by decide, fun h => absurd h (by decide)⟩, List.forall_mem_cons.mpr ⟨⟨fun h => by decide, by decide, fun h => absurd h (by decide)⟩, List.forall_mem_cons.mpr ⟨⟨fun h => by decide, by decide, fun h => absurd h (by decide)⟩, List.forall_mem_cons.mpr ⟨⟨fun h => by decide, by decide, fun h => absurd h (by decide)⟩, List.forall_mem_cons.mpr ⟨⟨fun h => by decide, by decide, fun h => absurd h (by decide)⟩, List.forall_mem_cons.mpr ⟨⟨fun h => by decide, by decide, fun h => absurd h (by decide)⟩, List.forall_mem_cons.mpr ⟨⟨fun h => by decide, by decide, fun h => absurd h (by decide)⟩, List.forall_mem_cons.mpr ⟨⟨fun h => by decide, by decide, fun h => absurd h (by decide)⟩, List.forall_mem_cons.mpr ⟨⟨fun h => by decide, by decide, fun h => absurd h (by decide)⟩, List.forall_mem_cons.mpr ⟨⟨fun h => by decide, by decide, fun h => absurd h (by decide)⟩, List.forall_mem_cons.mpr ⟨⟨fun h => by decide, by decide, fun h => ⟨by decide, by decide⟩⟩, List.forall_mem_cons.mpr ⟨⟨fun h => by decide, by decide, fun h => ⟨by decide, by decide⟩⟩, List.forall_mem_cons.mpr ⟨⟨fun h => by decide, by decide, fun h => ⟨by decide, by decide⟩⟩, List.forall_mem_cons.mpr ⟨⟨fun h => by decide, by decide, fun h => ⟨by decide, by decide⟩⟩, List.forall_mem_cons.mpr ⟨⟨fun h => by decide, by decide, fun h => ⟨by decide, by decide⟩⟩, List.forall_mem_cons.mpr ⟨⟨fun h => by decide, by decide, fun h => ⟨by decide, by decide⟩⟩, List.forall_mem_cons.mpr ⟨⟨fun h => by decide, by decide, fun h => ⟨by decide, by decide⟩⟩, List.forall_mem_cons.mpr ⟨⟨fun h => by decide, by decide, fun h => ⟨by decide, by decide⟩⟩, List.forall_mem_cons.mpr ⟨⟨fun h => by decide, by decide, fun h => ⟨by decide, by decide⟩⟩, List.forall_mem_cons.mpr ⟨⟨fun h => by decide, by decide, fun h => ⟨by decide, by decide⟩⟩, List.forall_mem_cons.mpr ⟨⟨fun h => by decide, by decide, fun h => ⟨by decide, by decide⟩⟩, List.forall_mem_cons.mpr ⟨⟨fun h => by decide, by decide, fun h => ⟨by decide, by decide⟩⟩, List.forall_mem_cons.mpr ⟨⟨fun h => by decide, by decide, fun h => ⟨by decide, by decide⟩⟩, List.forall_mem_cons.mpr ⟨⟨fun h => by decide, by decide, fun h => ⟨by decide, by decide⟩⟩, List.forall_mem_cons.mpr ⟨⟨fun h => by decide, by decide, fun h => ⟨by decide, by decide⟩⟩, List.forall_mem_cons.mpr ⟨⟨fun h => by exact absurd rfl h.2.1, by decide, fun h => absurd h (by decide)⟩, List.forall_mem_cons.mpr ⟨⟨fun h => by decide, by decide, fun h => ⟨by decide, by decide⟩⟩, List.forall_mem_cons.mpr ⟨⟨fun h => by decide, by decide, fun h => ⟨by decide, by decide⟩⟩, List.forall_mem_cons.mpr ⟨⟨fun h => by decide, by decide, fun h => ⟨by decide, by decide⟩⟩, fun _ h => absurd h List.not_mem_nil⟩⟩⟩⟩⟩⟩⟩⟩⟩⟩⟩⟩⟩⟩⟩⟩⟩⟩⟩⟩⟩⟩⟩⟩⟩⟩⟩⟩⟩⟩⟩⟩
theorem ct_mr0_1 : ∀ e ∈ am_mlT_1, ct_rng 1 e.2.1 e.2.2 := fun e h => ct_mr0_1_0 e h
theorem ct_mr0_2_0 : ∀ e ∈ am_mlT_2_0, ct_rng 2 e.2.1 e.2.2 := List.forall_mem_cons.mpr ⟨⟨fun h => by exact absurd rfl h.1, by decide, fun h => absurd h (by decide)⟩, fun _ h => absurd h List.not_mem_nil⟩
theorem ct_mr0_2 : ∀ e ∈ am_mlT_2, ct_rng 2 e.2.1 e.2.2 := fun e h => ct_mr0_2_0 e h
theorem ct_mr0_3_0 : ∀ e ∈ am_mlT_3_0, ct_rng 3 e.2.1 e.2.2 := List.forall_mem_cons.mpr ⟨⟨fun h => by exact absurd rfl h.1, by decide, fun h => absurd h (by decide)⟩, List.forall_mem_cons.mpr ⟨⟨fun h => by decide, by decide, fun h => absurd h (by decide)⟩, List.forall_mem_cons.mpr ⟨⟨fun h => by decide, by decide, fun h => ⟨by decide, by decide⟩⟩, List.forall_mem_cons.mpr ⟨⟨fun h => by decide, by decide, fun h => absurd h (by decide)⟩, fun _ h => absurd h List.not_mem_nil⟩⟩⟩⟩
theorem ct_mr0_3 : ∀ e ∈ am_mlT_3, ct_rng 3 e.2.1 e.2.2 := fun e h => ct_mr0_3_0 e h
theorem ct_mr0_4_0 : ∀ e ∈ am_mlT_4_0, ct_rng 4 e.2.1 e.2.2 := List.forall_mem_cons.mpr ⟨⟨fun h => by exact absurd rfl h.1, by decide, fun h => absurd h (by decide)⟩, List.forall_mem_cons.mpr ⟨⟨fun h => by decide, by decide, fun h => absurd h (by decide)⟩, List.forall_mem_cons.mpr ⟨⟨fun h => by decide, by decide, fun h => ⟨by decide, by decide⟩⟩, List.forall_mem_cons.mpr ⟨⟨fun h => by decide, by decide, fun h => absurd h (by decide)⟩, List.forall_mem_cons.mpr ⟨⟨fun h => by decide, by decide, fun h => ⟨by decide, by decide⟩⟩, fun _ h => absurd h List.not_mem_nil⟩⟩⟩⟩⟩
theorem ct_mr0_4 : ∀ e ∈ am_mlT_4, ct_rng 4 e.2.1 e.2.2 := fun e h => ct_mr0_4_0 e h
theorem ct_mr0_5_0 : ∀ e ∈ am_mlT_5_0, ct_rng 5 e.2.1 e.2.2 := List.forall_mem_cons.mpr ⟨⟨fun h => by exact absurd rfl h.1, by decide, fun h => absurd h (by decide)⟩, List.forall_mem_cons.mpr ⟨⟨fun h => by decide, by decide, fun h => absurd h (by decide)⟩, List.forall_mem_cons.mpr ⟨⟨fun h => by decide, by decide, fun h => ⟨by decide, by decide⟩⟩, List.forall_mem_cons.mpr ⟨⟨fun h => by decide, by decide, fun h => ⟨by decide, by decide⟩⟩, List.forall_mem_cons.mpr ⟨⟨fun h => by decide, by decide, fun h => ⟨by decide, by decide⟩⟩, List.forall_mem_cons.mpr ⟨⟨fun h => by decide, by decide, fun h => absurd h (by decide)⟩, List.forall_mem_cons.mpr ⟨⟨fun h => by decide, by decide, fun h => ⟨by decide, by decide⟩⟩, List.forall_mem_cons.mpr ⟨⟨fun h => by decide, by decide, fun h => ⟨by decide, by decide⟩⟩, List.forall_mem_cons.mpr ⟨⟨fun h => by decide, by decide, fun h => ⟨by decide, by decide⟩⟩, List.forall_mem_cons.mpr ⟨⟨fun h => by decide, by decide, fun h => absurd h (by decide)⟩, List.forall_mem_cons.mpr ⟨⟨fun h => by decide, by decide, fun h => ⟨by decide, by decide⟩⟩, List.forall_mem_cons.mpr ⟨⟨fun h => by decide, by decide, fun h => ⟨by decide, by decide⟩⟩, List.forall_mem_cons.mpr ⟨⟨fun h => by decide, by decide, fun h => ⟨by decide, by decide⟩⟩, List.forall_mem_cons.mpr ⟨⟨fun h => by decide, by decide, fun h => ⟨by decide, by decide⟩⟩, List.forall_mem_cons.mpr ⟨⟨fun h => by decide, by decide, fun h => ⟨by decide, by decide⟩⟩, List.forall_mem_cons.mpr ⟨⟨fun h => by decide, by decide, fun h => absurd h (by decide)⟩, List.forall_mem_cons.mpr ⟨⟨fun h => by decide, by decide, fun h => ⟨by decide, by decide⟩⟩, List.forall_mem_cons.mpr ⟨⟨fun h => by decide, by decide, fun h => absurd h (by decide)⟩, fun _ h => absurd h List.not_mem_nil⟩⟩⟩⟩⟩⟩⟩⟩⟩⟩⟩⟩⟩⟩⟩⟩⟩⟩
theorem ct_mr0_5 : ∀ e ∈ am_mlT_5, ct_rng 5 e.2.1 e.2.2 := fun e h => ct_mr0_5_0 e h
theorem ct_mr0_6_0 : ∀ e ∈ am_mlT_6_0, ct_rng 6 e.2.1 e.2.2 := List.forall_mem_cons.mpr ⟨⟨fun h => by exact absurd rfl h.1, by decide, fun h => absurd h (by decide)⟩, List.forall_mem_cons.mpr ⟨⟨fun h => by decide, by decide, fun h => absurd h (by decide)⟩, List.forall_mem_cons.mpr ⟨⟨fun h => by decide, by decide, fun h => ⟨by decide, by decide⟩⟩, List.forall_mem_cons.mpr ⟨⟨fun h => by decide, by decide, fun h => ⟨by decide, by decide⟩⟩, List.forall_mem_cons.mpr ⟨⟨fun h => by decide, by decide, fun h => ⟨by decide, by decide⟩⟩, List.forall_mem_cons.mpr ⟨⟨fun h => by decide, by decide, fun h => ⟨by decide, by decide⟩⟩, List.forall_mem_cons.mpr ⟨⟨fun h => by decide, by decide, fun h => ⟨by decide, by decide⟩⟩, List.forall_mem_cons.mpr ⟨⟨fun h => by decide, by decide, fun h => ⟨by decide, by decide⟩⟩, List.forall_mem_cons.mpr ⟨⟨fun h => by decide, by decide, fun h => ⟨by decide, by decide⟩⟩, List.forall_mem_cons.mpr ⟨⟨fun h => by decide, by decide, fun h => ⟨by decide, by decide⟩⟩, List.forall_mem_cons.mpr ⟨⟨fun h => by decide, by decide, fun h => ⟨by decide, by decide⟩⟩, List.forall_mem_cons.mpr ⟨⟨fun h => by decide, by decide, fun h => ⟨by decide, by decide⟩⟩, List.forall_mem_cons.mpr ⟨⟨fun h => by decide, by decide, fun h => ⟨by decide, by decide⟩⟩, List.forall_mem_cons.mpr ⟨⟨fun h => by decide, by decide, fun h => ⟨by decide, by decide⟩⟩, List.forall_mem_cons.mpr ⟨⟨fun h => by decide, by decide, fun h => ⟨by decide, by decide⟩⟩, List.forall_mem_cons.mpr ⟨⟨fun h => by decide, by decide, fun h => ⟨by decide, by decide⟩⟩, List.forall_mem_cons.mpr ⟨⟨fun h => by decide, by decide, fun h => ⟨by decide, by decide⟩⟩, List.forall_mem_cons.mpr ⟨⟨fun h => by decide, by decide, fun h => ⟨by decide, by decide⟩⟩, List.forall_mem_cons.mpr ⟨⟨fun h => by decide, by decide, fun h => ⟨by decide, by decide⟩⟩, List.forall_mem_cons.mpr ⟨⟨fun h => by decide, by decide, fun h => ⟨by decide, by decide⟩⟩, List.forall_mem_cons.mpr ⟨⟨fun h => by decide, by decide, fun h => ⟨by decide, by decide⟩⟩, List.forall_mem_cons.mpr ⟨⟨fun h => by decide, by decide, fun h => ⟨by decide, by decide⟩⟩, List.forall_mem_cons.mpr ⟨⟨fun h => by decide, by decide, fun h => ⟨by decide, by decide⟩⟩, List.forall_mem_cons.mpr ⟨⟨fun h => by decide, by decide, fun h => ⟨by decide, by decide⟩⟩, List.forall_mem_cons.mpr ⟨⟨fun h => by decide, by decide, fun h => ⟨by decide, by decide⟩⟩, List.forall_mem_cons.mpr ⟨⟨fun h => by decide, by decide, fun h => ⟨by decide, by decide⟩⟩, List.forall_mem_cons.mpr ⟨⟨fun h => by decide, by decide, fun h => ⟨by decide, by decide⟩⟩, List.forall_mem_cons.mpr ⟨⟨fun h => by decide, by decide, fun h => ⟨by decide, by decide⟩⟩, fun _ h => absurd h List.not_mem_nil⟩⟩⟩⟩⟩⟩⟩⟩⟩⟩⟩⟩⟩⟩⟩⟩⟩⟩⟩⟩⟩⟩⟩⟩⟩⟩⟩⟩
theorem ct_mr0_6 : ∀ e ∈ am_mlT_6, ct_rng 6 e.2.1 e.2.2 := fun e h => ct_mr0_6_0 e h
theorem ct_mr0_7_0 : ∀ e ∈ am_mlT_7_0, ct_rng 7 e.2.1 e.2.2 := List.forall_mem_cons.mpr ⟨⟨fun h => by decide, by decide, fun h => absurd h (by decide)⟩, fun _ h => absurd h List.not_mem_nil⟩
theorem ct_mr0_7 : ∀ e ∈ am_mlT_7, ct_rng 7 e.2.1 e.2.2 := fun e h => ct_mr0_7_0 e h
theorem ct_mr0_8_0 : ∀ e ∈ am_mlT_8_0, ct_rng 8 e.2.1 e.2.2 := List.forall_mem_cons.mpr ⟨⟨fun h => by exact absurd rfl h.1, by decide, fun h => absurd h (by decide)⟩, List.forall_mem_cons.mpr ⟨⟨fun h => by decide, by decide, fun h => absurd h (by decide)⟩, List.forall_mem_cons.mpr ⟨⟨fun h => by decide, by decide, fun h => absurd h (by decide)⟩, List.forall_mem_cons.mpr ⟨⟨fun h => by decide, by decide, fun h => absurd h (by decide)⟩, List.forall_mem_cons.mpr ⟨⟨fun h => by decide, by decide, fun h => ⟨by decide, by decide⟩⟩, List.forall_mem_cons.mpr ⟨⟨fun h => by decide, by decide, fun h => ⟨by decide, by decide⟩⟩, List.forall_mem_cons.mpr ⟨⟨fun h => by decide, by decide, fun h => ⟨by decide, by decide⟩⟩, List.forall_mem_cons.mpr ⟨⟨fun h => by decide, by decide, fun h => ⟨by decide, by decide⟩⟩, List.forall_mem_cons.mpr ⟨⟨fun h => by decide, by decide, fun h => ⟨by decide, by decide⟩⟩, List.forall_mem_cons.mpr ⟨⟨fun h => by decide, by decide, fun h => ⟨by decide, by decide⟩⟩, List.forall_mem_cons.mpr ⟨⟨fun h => by decide, by decide, fun h => ⟨by decide, by decide⟩⟩, List.forall_mem_cons.mpr ⟨⟨fun h => by decide, by decide, fun h => absurd h (by decide)⟩, List.forall_mem_cons.mpr ⟨⟨fun h => by decide, by decide, fun h => ⟨by decide, by decide⟩⟩, List.forall_mem_cons.mpr ⟨⟨fun h => by decide, by decide, fun h => ⟨by decide, by decide⟩⟩, List.forall_mem_cons.mpr ⟨⟨fun h => by decide, by decide, fun h => ⟨by decide, by decide⟩⟩, List.forall_mem_cons.mpr ⟨⟨fun h => by decide, by decide, fun h => ⟨by decide, by decide⟩⟩, List.forall_mem_cons.mpr ⟨⟨fun h => by decide, by decide, fun h => ⟨by decide, by decide⟩⟩, List.forall_mem_cons.mpr ⟨⟨fun h => by decide, by decide, fun h => ⟨by decide, by decide⟩⟩, List.forall_mem_cons.mpr ⟨⟨fun h => by decide, by decide, fun h => ⟨by decide, by decide⟩⟩, List.forall_mem_cons.mpr ⟨⟨fun h => by decide, by decide, fun h => ⟨by decide, by decide⟩⟩, List.forall_mem_cons.mpr ⟨⟨fun h => by decide, by decide, fun h => ⟨by decide, by decide⟩⟩, List.forall_mem_cons.mpr ⟨⟨fun h => by decide, by decide, fun h => ⟨by decide, by decide⟩⟩, List.forall_mem_cons.mpr ⟨⟨fun h => by decide, by decide, fun h => ⟨by decide, by decide⟩⟩, List.forall_mem_cons.mpr ⟨⟨fun h => by decide, by decide, fun h => ⟨by decide, by decide⟩⟩, List.forall_mem_cons.mpr ⟨⟨fun h => by decide, by decide, fun h => ⟨by decide, by decide⟩⟩, List.forall_mem_cons.mpr ⟨⟨fun h => by decide, by decide, fun h => absurd h (by decide)⟩, List.forall_mem_cons.mpr ⟨⟨fun h => by decide, by decide, fun h => ⟨by decide, by decide⟩⟩, List.forall_mem_cons.mpr ⟨⟨fun h => by decide, by decide, fun h => ⟨by decide, by decide⟩⟩, List.forall_mem_cons.mpr ⟨⟨fun h => by decide, by decide, fun h => ⟨by decide, by decide⟩⟩, List.forall_mem_cons.mpr ⟨⟨fun h => by decide, by decide, fun h => ⟨by decide, by decide⟩⟩, List.forall_mem_cons.mpr ⟨⟨fun h => by decide, by decide, fun h => ⟨by decide, by decide⟩⟩, List.forall_mem_cons.mpr ⟨⟨fun h => by decide, by decide, fun h => ⟨by decide, by decide⟩⟩, List.forall_mem_cons.mpr ⟨⟨fun h => by decide, by decide, fun h => ⟨by decide, by decide⟩⟩, List.forall_mem_cons.mpr ⟨⟨fun h => by decide, by decide, fun h => ⟨by decide, by decide⟩⟩, List.forall_mem_cons.mpr ⟨⟨fun h => by decide, by decide, fun h => ⟨by decide, by decide⟩⟩, List.forall_mem_cons.mpr ⟨⟨fun h => by decide, by decide, fun h => ⟨by decide, by decide⟩⟩, List.forall_mem_cons.mpr ⟨⟨fun h => by decide, by decide, fun h => ⟨by decide, by decide⟩⟩, List.forall_mem_cons.mpr ⟨⟨fun h => by decide, by decide, fun h => ⟨by decide, by decide⟩⟩, List.forall_mem_cons.mpr ⟨⟨fun h => by decide, by decide, fun h => ⟨by decide, by decide⟩⟩, List.forall_mem_cons.mpr ⟨⟨fun h => by decide, by decide, fun h => ⟨by decide, by decide⟩⟩, fun _ h => absurd h List.not_mem_nil⟩⟩⟩⟩⟩⟩⟩⟩⟩⟩⟩⟩⟩⟩⟩⟩⟩⟩⟩⟩⟩⟩⟩⟩⟩⟩⟩⟩⟩⟩⟩⟩⟩⟩⟩⟩⟩⟩⟩⟩
theorem ct_mr0_8_1 : ∀ e ∈ am_mlT_8_1, ct_rng 8 e.2.1 e.2.2 := List.forall_mem_cons.mpr ⟨⟨fun h => by decide, by decide, fun h => ⟨by decide, by decide⟩⟩, List.forall_mem_cons.mpr ⟨⟨fun h => by decide, by decide, fun h => ⟨by decide, by decide⟩⟩, List.forall_mem_cons.mpr ⟨⟨fun h => by decide, by decide, fun h => ⟨by decide, by decide⟩⟩, List.forall_mem_cons.mpr ⟨⟨fun h => by exact absurd rfl h.2.1, by decide, fun h => absurd h (by decide)⟩, List.forall_mem_cons.mpr ⟨⟨fun h => by decide, by decide, fun h => ⟨by decide, by decide⟩⟩, List.forall_mem_cons.mpr ⟨⟨fun h => by decide, by decide, fun h => ⟨by decide, by decide⟩⟩, List.forall_mem_cons.mpr ⟨⟨fun h => by decide, by decide, fun h => ⟨by decide, by decide⟩⟩, List.forall_mem_cons.mpr ⟨⟨fun h => by decide, by decide, fun h => absurd h (by decide)⟩, List.forall_mem_cons.mpr ⟨⟨fun h => by decide, by decide, fun h => ⟨by decide, by decide⟩⟩, List.forall_mem_cons.mpr ⟨⟨fun h => by decide, by decide, fun h => ⟨by decide, by decide⟩⟩, List.forall_mem_cons.mpr ⟨⟨fun h => by decide, by decide, fun h => ⟨by decide, by decide⟩⟩, List.forall_mem_cons.mpr ⟨⟨fun h => by decide, by decide, fun h => ⟨by decide, by decide⟩⟩, List.forall_mem_cons.mpr ⟨⟨fun h => by decide, by decide, fun h => ⟨by decide, by decide⟩⟩, List.forall_mem_cons.mpr ⟨⟨fun h => by decide, by decide, fun h => ⟨by decide, by decide⟩⟩, List.forall_mem_cons.mpr ⟨⟨fun h => by decide, by decide, fun h => absurd h (by decide)⟩, List.forall_mem_cons.mpr ⟨⟨fun h => by decide, by decide, fun h => ⟨by decide, by decide⟩⟩, List.forall_mem_cons.mpr ⟨⟨fun h => by decide, by decide, fun h => ⟨by decide, by decide⟩⟩, List.forall_mem_cons.mpr ⟨⟨fun h => by decide, by decide, fun h => ⟨by decide, by decide⟩⟩, List.forall_mem_cons.mpr ⟨⟨fun h => by decide, by decide, fun h => ⟨by decide, by decide⟩⟩, List.forall_mem_cons.mpr ⟨⟨fun h => by decide, by decide, fun h => ⟨by decide, by decide⟩⟩, List.forall_mem_cons.mpr ⟨⟨fun h => by decide, by decide, fun h => ⟨by decide, by decide⟩⟩, List.forall_mem_cons.mpr ⟨⟨fun h => by decide, by decide, fun h => ⟨by decide, by decide⟩⟩, List.forall_mem_cons.mpr ⟨⟨fun h => by decide, by decide, fun h => ⟨by decide, by decide⟩⟩, List.forall_mem_cons.mpr ⟨⟨fun h => by exact absurd rfl h.2.2.1, by decide, fun h => absurd h (by decide)⟩, List.forall_mem_cons.mpr ⟨⟨fun h => by decide, by decide, fun h => ⟨by decide, by decide⟩⟩, List.forall_mem_cons.mpr ⟨⟨fun h => by decide, by decide, fun h => ⟨by decide, by decide⟩⟩, List.forall_mem_cons.mpr ⟨⟨fun h => by decide, by decide, fun h => ⟨by decide, by decide⟩⟩, List.forall_mem_cons.mpr ⟨⟨fun h => by decide, by decide, fun h => ⟨by decide, by decide⟩⟩, List.forall_mem_cons.mpr ⟨⟨fun h => by decide, by decide, fun h => ⟨by decide, by decide⟩⟩, List.forall_mem_cons.mpr ⟨⟨fun h => by decide, by decide, fun h => ⟨by decide, by decide⟩⟩, List.forall_mem_cons.mpr ⟨⟨fun h => by decide, by decide, fun h => ⟨by decide, by decide⟩⟩, List.forall_mem_cons.mpr ⟨⟨fun h => by decide, by decide, fun h => ⟨by decide, by decide⟩⟩, List.forall_mem_cons.mpr ⟨⟨fun h => by decide, by decide, fun h => ⟨by decide, by decide⟩⟩, List.forall_mem_cons.mpr ⟨⟨fun h => by decide, by decide, fun h => ⟨by decide, by decide⟩⟩, List.forall_mem_cons.mpr ⟨⟨fun h => by decide, by decide, fun h => ⟨by decide, by decide⟩⟩, List.forall_mem_cons.mpr ⟨⟨fun h => by decide, by decide, fun h => ⟨by decide, by decide⟩⟩, List.forall_mem_cons.mpr ⟨⟨fun h => by decide, by decide, fun h => ⟨by decide, by decide⟩⟩, List.forall_mem_cons.mpr ⟨⟨fun h => by decide, by decide, fun h => ⟨by decide, by decide⟩⟩, List.forall_mem_cons.mpr ⟨⟨fun h => by decide, by decide, fun h => ⟨by decide, by decide⟩⟩, List.forall_mem_cons.mpr ⟨⟨fun h => by decide, by decide, fun h => ⟨by decide, by decide⟩⟩, fun _ h => absurd h List.not_mem_nil⟩⟩⟩⟩⟩⟩⟩⟩⟩⟩⟩⟩⟩⟩⟩⟩⟩⟩⟩⟩⟩⟩⟩⟩⟩⟩⟩⟩⟩⟩⟩⟩⟩⟩⟩⟩⟩⟩⟩⟩
theorem ct_mr0_8_2 : ∀ e ∈ am_mlT_8_2, ct_rng 8 e.2.1 e.2.2 := List.forall_mem_cons.mpr ⟨⟨fun h => by decide, by decide, fun h => ⟨by decide, by decide⟩⟩, List.forall_mem_cons.mpr ⟨⟨fun h => by decide, by decide, fun h => ⟨by decide, by decide⟩⟩, List.forall_mem_cons.mpr ⟨⟨fun h => by decide, by decide, fun h => ⟨by decide, by decide⟩⟩, List.forall_mem_cons.mpr ⟨⟨fun h => by decide, by decide, fun h => ⟨by decide, by decide⟩⟩, List.forall_mem_cons.mpr ⟨⟨fun h => by decide, by decide, fun h => ⟨by decide, by decide⟩⟩, List.forall_mem_cons.mpr ⟨⟨fun h => by decide, by decide, fun h => ⟨by decide, by decide⟩⟩, List.forall_mem_cons.mpr ⟨⟨fun h => by decide, by decide, fun h => ⟨by decide, by decide⟩⟩, List.forall_mem_cons.mpr ⟨⟨fun h => by decide, by decide, fun h => ⟨by decide, by decide⟩⟩, List.forall_mem_cons.mpr ⟨⟨fun h => by decide, by decide, fun h => ⟨by decide, by decide⟩⟩, List.forall_mem_cons.mpr ⟨⟨fun h => by decide, by decide, fun h => ⟨by decide, by decide⟩⟩, List.forall_mem_cons.mpr ⟨⟨fun h => by decide, by decide, fun h => ⟨by decide, by decide⟩⟩, List.forall_mem_cons.mpr ⟨⟨fun h => by decide, by decide, fun h => absurd h (by decide)⟩, List.forall_mem_cons.mpr ⟨⟨fun h => by decide, by decide, fun h => absurd h (by decide)⟩, List.forall_mem_cons.mpr ⟨⟨fun h => by decide, by decide, fun h => ⟨by decide, by decide⟩⟩, List.forall_mem_cons.mpr ⟨⟨fun h => by decide, by decide, fun h => absurd h (by decide)⟩, List.forall_mem_cons.mpr ⟨⟨fun h => by exact absurd rfl h.2.2.2.1, by decide, fun h => absurd h (by decide)⟩, List.forall_mem_cons.mpr ⟨⟨fun h => by decide, by decide, fun h => ⟨by decide, by decide⟩⟩, List.forall_mem_cons.mpr ⟨⟨fun h => by exact absurd rfl h.2.2.2.2, by decide, fun h => absurd h (by decide)⟩, List.forall_mem_cons.mpr ⟨⟨fun h => by decide, by decide, fun h => ⟨by decide, by decide⟩⟩, List.forall_mem_cons.mpr ⟨⟨fun h => by decide, by decide, fun h => ⟨by decide, by decide⟩⟩, List.forall_mem_cons.mpr ⟨⟨fun h => by decide, by decide, fun h => ⟨by decide, by decide⟩⟩, List.forall_mem_cons.mpr ⟨⟨fun h => by decide, by decide, fun h => ⟨by decide, by decide⟩⟩, List.forall_mem_cons.mpr ⟨⟨fun h => by decide, by decide, fun h => ⟨by decide, by decide⟩⟩, List.forall_mem_cons.mpr ⟨⟨fun h => by decide, by decide, fun h => ⟨by decide, by decide⟩⟩, List.forall_mem_cons.mpr ⟨⟨fun h => by decide, by decide, fun h => ⟨by decide, by decide⟩⟩, List.forall_mem_cons.mpr ⟨⟨fun h => by decide, by decide, fun h => ⟨by decide, by decide⟩⟩, List.forall_mem_cons.mpr ⟨⟨fun h => by decide, by decide, fun h => ⟨by decide, by decide⟩⟩, List.forall_mem_cons.mpr ⟨⟨fun h => by decide, by decide, fun h => ⟨by decide, by decide⟩⟩, List.forall_mem_cons.mpr ⟨⟨fun h => by decide, by decide, fun h => ⟨by decide, by decide⟩⟩, List.forall_mem_cons.mpr ⟨⟨fun h => by decide, by decide, fun h => ⟨by decide, by decide⟩⟩, List.forall_mem_cons.mpr ⟨⟨fun h => by decide, by decide, fun h => ⟨by decide, by decide⟩⟩, List.forall_mem_cons.mpr ⟨⟨fun h => by decide, by decide, fun h => ⟨by decide, by decide⟩⟩, List.forall_mem_cons.mpr ⟨⟨fun h => by decide, by decide, fun h => ⟨by decide, by decide⟩⟩, List.forall_mem_cons.mpr ⟨⟨fun h => by decide, by decide, fun h => ⟨by decide, by decide⟩⟩, List.forall_mem_cons.mpr ⟨⟨fun h => by decide, by decide, fun h => ⟨by decide, by decide⟩⟩, List.forall_mem_cons.mpr ⟨⟨fun h => by decide, by decide, fun h => ⟨by decide, by decide⟩⟩, List.forall_mem_cons.mpr ⟨⟨fun h => by decide, by decide, fun h => ⟨by decide, by decide⟩⟩, List.forall_mem_cons.mpr ⟨⟨fun h => by decide, by decide, fun h => ⟨by decide, by decide⟩⟩, List.forall_mem_cons.mpr ⟨⟨fun h => by decide, by decide, fun h => ⟨by decide, by decide⟩⟩, fun _ h => absurd h List.not_mem_nil⟩⟩⟩⟩⟩⟩⟩⟩⟩⟩⟩⟩⟩⟩⟩⟩⟩⟩⟩⟩⟩⟩⟩⟩⟩⟩⟩⟩⟩⟩⟩⟩⟩⟩⟩⟩⟩⟩⟩
theorem ct_mr0_8 : ∀ e ∈ am_mlT_8, ct_rng 8 e.2.1 e.2.2 := fun e h => (List.mem_append.mp h).elim (ct_mr0_8_0 e) (fun h => (List.mem_append.mp h).elim (ct_mr0_8_1 e) (fun h => ct_mr0_8_2 e h))
theorem ct_mr0_9_0 : ∀ e ∈ am_mlT_9_0, ct_rng 9 e.2.1 e.2.2 := List.forall_mem_cons.mpr ⟨⟨fun h => by exact absurd rfl h.1, by decide, fun h => absurd h (by decide)⟩, List.forall_mem_cons.mpr ⟨⟨fun h => by exact absurd rfl h.2.1, by decide, fun h => absurd h (by decide)⟩, List.forall_mem_cons.mpr ⟨⟨fun h => by decide, by decide, fun h => absurd h (by decide)⟩, List.forall_mem_cons.mpr ⟨⟨fun h => by decide, by decide, fun h => ⟨by decide, by decide⟩⟩, List.forall_mem_cons.mpr ⟨⟨fun h => by decide, by decide, fun h => absurd h (by decide)⟩, List.forall_mem_cons.mpr ⟨⟨fun h => by decide, by decide, fun h => ⟨by decide, by decide⟩⟩, List.forall_mem_cons.mpr ⟨⟨fun h => by decide, by decide, fun h => absurd h (by decide)⟩, List.forall_mem_cons.mpr ⟨⟨fun h => by decide, by decide, fun h => ⟨by decide, by decide⟩⟩, fun _ h => absurd h List.not_mem_nil⟩⟩⟩⟩⟩⟩⟩⟩
theorem ct_mr0_9 : ∀ e ∈ am_mlT_9, ct_rng 9 e.2.1 e.2.2 := fun e h => ct_mr0_9_0 e h
theorem ct_mr0_10_0 : ∀ e ∈ am_mlT_10_0, ct_rng 10 e.2.1 e.2.2 := List.forall_mem_cons.mpr ⟨⟨fun h => by exact absurd rfl h.1, by decide, fun h => absurd h (by decide)⟩, List.forall_mem_cons.mpr ⟨⟨fun h => by decide, by decide, fun h => ⟨by decide, by decide⟩⟩, List.forall_mem_cons.mpr ⟨⟨fun h => by decide, by decide, fun h => ⟨by decide, by decide⟩⟩, List.forall_mem_cons.mpr ⟨⟨fun h => by decide, by decide, fun h => ⟨by decide, by decide⟩⟩, List.forall_mem_cons.mpr ⟨⟨fun h => by decide, by decide, fun h => ⟨by decide, by decide⟩⟩, List.forall_mem_cons.mpr ⟨⟨fun h => by decide, by decide, fun h => ⟨by decide, by decide⟩⟩, fun _ h => absurd h List.not_mem_nil⟩⟩⟩⟩⟩⟩
theorem ct_mr0_10 : ∀ e ∈ am_mlT_10, ct_rng 10 e.2.1 e.2.2 := fun e h => ct_mr0_10_0 e h
theorem ct_mr0_11_0 : ∀ e ∈ am_mlT_11_0, ct_rng 11 e.2.1 e.2.2 := List.forall_mem_cons.mpr ⟨⟨fun h => by exact absurd rfl h.1, by decide, fun h => absurd h (by decide)⟩, List.forall_mem_cons.mpr ⟨⟨fun h => by decide, by decide, fun h => ⟨by decide, by decide⟩⟩, List.forall_mem_cons.mpr ⟨⟨fun h => by decide, by decide, fun h => ⟨by decide, by decide⟩⟩, List.forall_mem_cons.mpr ⟨⟨fun h => by decide, by decide, fun h => ⟨by decide, by decide⟩⟩, List.forall_mem_cons.mpr ⟨⟨fun h => by decide, by decide, fun h => ⟨by decide, by decide⟩⟩, List.forall_mem_cons.mpr ⟨⟨fun h => by decide, by decide, fun h => ⟨by decide, by decide⟩⟩, List.forall_mem_cons.mpr ⟨⟨fun h => by decide, by decide, fun h => ⟨by decide, by decide⟩⟩, List.forall_mem_cons.mpr ⟨⟨fun h => by decide, by decide, fun h => ⟨by decide, by decide⟩⟩, List.forall_mem_cons.mpr ⟨⟨fun h => by decide, by decide, fun h => ⟨by decide, by decide⟩⟩, List.forall_mem_cons.mpr ⟨⟨fun h => by decide, by decide, fun h => ⟨by decide, by decide⟩⟩, List.forall_mem_cons.mpr ⟨⟨fun h => by decide, by decide, fun h => ⟨by decide, by decide⟩⟩, List.forall_mem_cons.mpr ⟨⟨fun h => by decide, by decide, fun h => absurd h (by decide)⟩, fun _ h => absurd h List.not_mem_nil⟩⟩⟩⟩⟩⟩⟩⟩⟩⟩⟩⟩
theorem ct_mr0_11 : ∀ e ∈ am_mlT_11, ct_rng 11 e.2.1 e.2.2 := fun e h => ct_mr0_11_0 e h
theorem ct_mr0_12_0 : ∀ e ∈ am_mlT_12_0, ct_rng 12 e.2.1 e.2.2 := List.forall_mem_cons.mpr ⟨⟨fun h => by exact absurd rfl h.1, by decide, fun h => absurd h (by decide)⟩, List.forall_mem_cons.mpr ⟨⟨fun h => by decide, by decide, fun h => absurd h (by decide)⟩, List.forall_mem_cons.mpr ⟨⟨fun h => by exact absurd rfl h.2.1, by decide, fun h => absurd h (by decide)⟩, List.forall_mem_cons.mpr ⟨⟨fun h => by decide, by decide, fun h => ⟨by decide, by decide⟩⟩, List.forall_mem_cons.mpr ⟨⟨fun h => by decide, by decide, fun h => ⟨by decide, by decide⟩⟩, List.forall_mem_cons.mpr ⟨⟨fun h => by decide, by decide, fun h => ⟨by decide, by decide⟩⟩, List.forall_mem_cons.mpr ⟨⟨fun h => by decide, by decide, fun h => ⟨by decide, by decide⟩⟩, List.forall_mem_cons.mpr ⟨⟨fun h => by decide, by decide, fun h => ⟨by decide, by decide⟩⟩, List.forall_mem_cons.mpr ⟨⟨fun h => by decide, by decide, fun h => ⟨by decide, by decide⟩⟩, fun _ h => absurd h List.not_mem_nil⟩⟩⟩⟩⟩⟩⟩⟩⟩
theorem ct_mr0_12 : ∀ e ∈ am_mlT_12, ct_rng 12 e.2.1 e.2.2 := fun e h => ct_mr0_12_0 e h
theorem ct_mr0_13_0 : ∀ e ∈ am_mlT_13_0, ct_rng 13 e.2.1 e.2.2 := List.forall_mem_cons.mpr ⟨⟨fun h => by exact absurd rfl h.1, by decide, fun h => absurd h (by decide)⟩, List.forall_mem_cons.mpr ⟨⟨fun h => by decide, by decide, fun h => ⟨by decide, by decide⟩⟩, List.forall_mem_cons.mpr ⟨⟨fun h => by decide, by decide, fun h => ⟨by decide, by decide⟩⟩, List.forall_mem_cons.mpr ⟨⟨fun h => by decide, by decide, fun h => ⟨by decide, by decide⟩⟩, List.forall_mem_cons.mpr ⟨⟨fun h => by decide, by decide, fun h => ⟨by decide, by decide⟩⟩, List.forall_mem_cons.mpr ⟨⟨fun h => by decide, by decide, fun h => ⟨by decide, by decide⟩⟩, List.forall_mem_cons.mpr ⟨⟨fun h => by decide, by decide, fun h => ⟨by decide, by decide⟩⟩, List.forall_mem_cons.mpr ⟨⟨fun h => by decide, by decide, fun h => ⟨by decide, by decide⟩⟩, List.forall_mem_cons.mpr ⟨⟨fun h => by decide, by decide, fun h => ⟨by decide, by decide⟩⟩, List.forall_mem_cons.mpr ⟨⟨fun h => by decide, by decide, fun h => ⟨by decide, by decide⟩⟩, List.forall_mem_cons.mpr ⟨⟨fun h => by decide, by decide, fun h => absurd h (by decide)⟩, List.forall_mem_cons.mpr ⟨⟨fun h => by decide, by decide, fun h => ⟨by decide, by decide⟩⟩, List.forall_mem_cons.mpr ⟨⟨fun h => by decide, by decide, fun h => absurd h (by decide)⟩, List.forall_mem_cons.mpr ⟨⟨fun h => by decide, by decide, fun h => ⟨by decide, by decide⟩⟩, List.forall_mem_cons.mpr ⟨⟨fun h => by decide, by decide, fun h => ⟨by decide, by decide⟩⟩, List.forall_mem_cons.mpr ⟨⟨fun h => by decide, by decide, fun h => ⟨by decide, by decide⟩⟩, List.forall_mem_cons.mpr ⟨⟨fun h => by decide, by decide, fun h => ⟨by decide, by decide⟩⟩, List.forall_mem_cons.mpr ⟨⟨fun h => by decide, by decide, fun h => ⟨by decide, by decide⟩⟩, List.forall_mem_cons.mpr ⟨⟨fun h => by decide, by decide, fun h => ⟨by decide, by decide⟩⟩, List.forall_mem_cons.mpr ⟨⟨fun h => by decide, by decide, fun h => ⟨by decide, by decide⟩⟩, List.forall_mem_cons.mpr ⟨⟨fun h => by decide, by decide, fun h => ⟨by decide, by decide⟩⟩, List.forall_mem_cons.mpr ⟨⟨fun h => by decide, by decide, fun h => ⟨by decide, by decide⟩⟩, List.forall_mem_cons.mpr ⟨⟨fun h => by decide, by decide, fun h => ⟨by decide, by decide⟩⟩, List.forall_mem_cons.mpr ⟨⟨fun h => by decide, by decide, fun h => ⟨by decide, by decide⟩⟩, List.forall_mem_cons.mpr ⟨⟨fun h => by decide, by decide, fun h => ⟨by decide, by decide⟩⟩, List.forall_mem_cons.mpr ⟨⟨fun h => by decide, by decide, fun h => ⟨by decide, by decide⟩⟩, List.forall_mem_cons.mpr ⟨⟨fun h => by decide, by decide, fun h => ⟨by decide, by decide⟩⟩, List.forall_mem_cons.mpr ⟨⟨fun h => by decide, by decide, fun h => ⟨by decide, by decide⟩⟩, List.forall_mem_cons.mpr ⟨⟨fun h => by decide, by decide, fun h => ⟨by decide, by decide⟩⟩, List.forall_mem_cons.mpr ⟨⟨fun h => by decide, by decide, fun h => ⟨by decide, by decide⟩⟩, List.forall_mem_cons.mpr ⟨⟨fun h => by decide, by decide, fun h => ⟨by decide, by decide⟩⟩, List.forall_mem_cons.mpr ⟨⟨fun h => by decide, by decide, fun h => ⟨by decide, by decide⟩⟩, List.forall_mem_cons.mpr ⟨⟨fun h => by decide, by decide, fun h => ⟨by decide, by decide⟩⟩, List.forall_mem_cons.mpr ⟨⟨fun h => by decide, by decide, fun h => absurd h (by decide)⟩, List.forall_mem_cons.mpr ⟨⟨fun h => by decide, by decide, fun h => ⟨by decide, by decide⟩⟩, List.forall_mem_cons.mpr ⟨⟨fun h => by decide, by decide, fun h => absurd h (by decide)⟩, List.forall_mem_cons.mpr ⟨⟨fun h => by decide, by decide, fun h => ⟨by decide, by decide⟩⟩, List.forall_mem_cons.mpr ⟨⟨fun h => by decide, by decide, fun h => ⟨by decide, by decide⟩⟩, List.forall_mem_cons.mpr ⟨⟨fun h => by decide, by decide, fun h => ⟨by decide, by decide⟩⟩, List.forall_mem_cons.mpr ⟨⟨fun h => by decide, by decide, fun h => ⟨by decide, by decide⟩⟩, fun _ h => absurd h List.not_mem_nil⟩⟩⟩⟩⟩⟩⟩⟩⟩⟩⟩⟩⟩⟩⟩⟩⟩⟩⟩⟩⟩⟩⟩⟩⟩⟩⟩⟩⟩⟩⟩⟩⟩⟩⟩⟩⟩⟩⟩⟩
theorem ct_mr0_13_1 : ∀ e ∈ am_mlT_13_1, ct_rng 13 e.2.1 e.2.2 := List.forall_mem_cons.mpr ⟨⟨fun h => by decide, by decide, fun h => ⟨by decide, by decide⟩⟩, List.forall_mem_cons.mpr ⟨⟨fun h => by decide, by decide, fun h => ⟨by decide, by decide⟩⟩, List.forall_mem_cons.mpr ⟨⟨fun h => by decide, by decide, fun h => ⟨by decide, by decide⟩⟩, List.forall_mem_cons.mpr ⟨⟨fun h => by decide, by decide, fun h => ⟨by decide, by decide⟩⟩, List.forall_mem_cons.mpr ⟨⟨fun h => by decide, by decide, fun h => ⟨by decide, by decide⟩⟩, List.forall_mem_cons.mpr ⟨⟨fun h => by decide, by decide, fun h => ⟨by decide, by decide⟩⟩, List.forall_mem_cons.mpr ⟨⟨fun h => by decide, by decide, fun h => ⟨by decide, by decide⟩⟩, List.forall_mem_cons.mpr ⟨⟨fun h => by decide, by decide, fun h => ⟨by decide, by decide⟩⟩, List.forall_mem_cons.mpr ⟨⟨fun h => by decide, by decide, fun h => ⟨by decide, by decide⟩⟩, fun _ h => absurd h List.not_mem_nil⟩⟩⟩⟩⟩⟩⟩⟩⟩
theorem ct_mr0_13 : ∀ e ∈ am_mlT_13, ct_rng 13 e.2.1 e.2.2 := fun e h => (List.mem_append.mp h).elim (ct_mr0_13_0 e) (fun h => ct_mr0_13_1 e h)
theorem ct_mr0_14_0 : ∀ e ∈ am_mlT_14_0, ct_rng 14 e.2.1 e.2.2 := List.forall_mem_cons.mpr ⟨⟨fun h => by exact absurd rfl h.1, by decide, fun h => absurd h (by decide)⟩, fun _ h => absurd h List.not_mem_nil⟩
theorem ct_mr0_14 : ∀ e ∈ am_mlT_14, ct_rng 14 e.2.1 e.2.2 := fun e h => ct_mr0_14_0 e h
theorem ct_mr0_15_0 : ∀ e ∈ am_mlT_15_0, ct_rng 15 e.2.1 e.2.2 := List.forall_mem_cons.mpr ⟨⟨fun h => by exact absurd rfl h.1, by decide, fun h => absurd h (by decide)⟩, List.forall_mem_cons.mpr ⟨⟨fun h => by decide, by decide, fun h => ⟨by decide, by decide⟩⟩, fun _ h => absurd h List.not_mem_nil⟩⟩
theorem ct_mr0_15 : ∀ e ∈ am_mlT_15, ct_rng 15 e.2.1 e.2.2 := fun e h => ct_mr0_15_0 e h
theorem ct_mr0_16_0 : ∀ e ∈ am_mlT_16_0, ct_rng 16 e.2.1 e.2.2 := List.forall_mem_cons.mpr ⟨⟨fun h => by exact absurd rfl h.1, by decide, fun h => absurd h (by decide)⟩, fun _ h => absurd h List.not_mem_nil⟩
theorem ct_mr0_16 : ∀ e ∈ am_mlT_16, ct_rng 16 e.2.1 e.2.2 := fun e h => ct_mr0_16_0 e h
theorem ct_mr0_17_0 : ∀ e ∈ am_mlT_17_0, ct_rng 17 e.2.1 e.2.2 := List.forall_mem_cons.mpr ⟨⟨fun h => by exact absurd rfl h.1, by decide, fun h => absurd h (by decide)⟩, fun _ h => absurd h List.not_mem_nil⟩
theorem ct_mr0_17 : ∀ e ∈ am_mlT_17, ct_rng 17 e.2.1 e.2.2 := fun e h => ct_mr0_17_0 e h
theorem ct_mr0_18_0 : ∀ e ∈ am_mlT_18_0, ct_rng 18 e.2.1 e.2.2 := List.forall_mem_cons.mpr ⟨⟨fun h => by exact absurd rfl h.1, by decide, fun h => absurd h (by decide)⟩, fun _ h => absurd h List.not_mem_nil⟩
theorem ct_mr0_18 : ∀ e ∈ am_mlT_18, ct_rng 18 e.2.1 e.2.2 := fun e h => ct_mr0_18_0 e h
theorem ct_mr0_19_0 : ∀ e ∈ am_mlT_19_0, ct_rng 19 e.2.1 e.2.2 := List.forall_mem_cons.mpr ⟨⟨fun h => by exact absurd rfl h.1, by decide, fun h => absurd h (by decide)⟩, List.forall_mem_cons.mpr ⟨⟨fun h => by decide, by decide, fun h => ⟨by decide, by decide⟩⟩, List.forall_mem_cons.mpr ⟨⟨fun h => by decide, by decide, fun h => ⟨by decide, by decide⟩⟩, List.forall_mem_cons.mpr ⟨⟨fun h => by decide, by decide, fun h => absurd h (by decide)⟩, List.forall_mem_cons.mpr ⟨⟨fun h => by decide, by decide, fun h => ⟨by decide, by decide⟩⟩, List.forall_mem_cons.mpr ⟨⟨fun h => by decide, by decide, fun h => absurd h (by decide)⟩, List.forall_mem_cons.mpr ⟨⟨fun h => by decide, by decide, fun h => absurd h (by decide)⟩, List.forall_mem_cons.mpr ⟨⟨fun h => by decide, by decide, fun h => ⟨by decide, by decide⟩⟩, List.forall_mem_cons.mpr ⟨⟨fun h => by decide, by decide, fun h => absurd h (by decide)⟩, List.forall_mem_cons.mpr ⟨⟨fun h => by decide, by decide, fun h => absurd h (by decide)⟩, List.forall_mem_cons.mpr ⟨⟨fun h => by decide, by decide, fun h => absurd h (by decide)⟩, fun _ h => absurd h List.not_mem_nil⟩⟩⟩⟩⟩⟩⟩⟩⟩⟩⟩
theorem ct_mr0_19 : ∀ e ∈ am_mlT_19, ct_rng 19 e.2.1 e.2.2 := fun e h => ct_mr0_19_0 e h
theorem ct_mr0_20_0 : ∀ e ∈ am_mlT_20_0, ct_rng 20 e.2.1 e.2.2 := List.forall_mem_cons.mpr ⟨⟨fun h => by decide, by decide, fun h => absurd h (by decide)⟩, List.forall_mem_cons.mpr ⟨⟨fun h => by decide, by decide, fun h => absurd h (by decide)⟩, List.forall_mem_cons.mpr ⟨⟨fun h => by decide, by decide, fun h => absurd h (by decide)⟩, fun _ h => absurd h List.not_mem_nil⟩⟩⟩
theorem ct_mr0_20 : ∀ e ∈ am_mlT_20, ct_rng 20 e.2.1 e.2.2 := fun e h => ct_mr0_20_0 e h
theorem ct_mr0_22_0 : ∀ e ∈ am_mlT_22_0, ct_rng 22 e.2.1 e.2.2 := List.forall_mem_cons.mpr ⟨⟨fun h => by exact absurd rfl h.2.1, by decide, fun h => absurd h (by decide)⟩, List.forall_mem_cons.mpr ⟨⟨fun h => by exact absurd rfl h.2.2.2.1, by decide, fun h => absurd h (by decide)⟩, List.forall_mem_cons.mpr ⟨⟨fun h => by decide, by decide, fun h => absurd h (by decide)⟩, List.forall_mem_cons.mpr ⟨⟨fun h => by decide, by decide, fun h => absurd h (by decide)⟩, fun _ h => absurd h List.not_mem_nil⟩⟩⟩⟩
theorem ct_mr0_22 : ∀ e ∈ am_mlT_22, ct_rng 22 e.2.1 e.2.2 := fun e h => ct_mr0_22_0 e h
theorem ct_mr0_25_0 : ∀ e ∈ am_mlT_25_0, ct_rng 25 e.2.1 e.2.2 := List.forall_mem_cons.mpr ⟨⟨fun h => by exact absurd rfl h.1, by decide, fun h => absurd h (by decide)⟩, fun _ h => absurd h List.not_mem_nil⟩
theorem ct_mr0_25 : ∀ e ∈ am_mlT_25, ct_rng 25 e.2.1 e.2.2 := fun e h => ct_mr0_25_0 e h
theorem ct_mr0_26_0 : ∀ e ∈ am_mlT_26_0, ct_rng 26 e.2.1 e.2.2 := List.forall_mem_cons.mpr ⟨⟨fun h => by decide, by decide, fun h => absurd h (by decide)⟩, fun _ h => absurd h List.not_mem_nil⟩
theorem ct_mr0_26 : ∀ e ∈ am_mlT_26, ct_rng 26 e.2.1 e.2.2 := fun e h => ct_mr0_26_0 e h
theorem ct_mr0_27_0 : ∀ e ∈ am_mlT_27_0, ct_rng 27 e.2.1 e.2.2 := List.forall_mem_cons.mpr ⟨⟨fun h => by decide, by decide, fun h => absurd h (by decide)⟩, fun _ h => absurd h List.not_mem_nil⟩
theorem ct_mr0_27 : ∀ e ∈ am_mlT_27, ct_rng 27 e.2.1 e.2.2 := fun e h => ct_mr0_27_0 e h
theorem ct_mr0 (own : Nat) : ∀ e ∈ am_mlL.getD own [], ct_rng own e.2.1 e.2.2 := by
  match own with
  | 0 => exact ct_mr0_0
  | 1 => exact ct_mr0_1
  | 2 => exact ct_mr0_2
  | 3 => exact ct_mr0_3
  | 4 => exact ct_mr0_4
  | 5 => exact ct_mr0_5
  | 6 => exact ct_mr0_6
  | 7 => exact ct_mr0_7
  | 8 => exact ct_mr0_8
  | 9 => exact ct_mr0_9
  | 10 => exact ct_mr0_10
  | 11 => exact ct_mr0_11
  | 12 => exact ct_mr0_12
  | 13 => exact ct_mr0_13
  | 14 => exact ct_mr0_14
  | 15 => exact ct_mr0_15
  | 16 => exact ct_mr0_16
  | 17 => exact ct_mr0_17
  | 18 => exact ct_mr0_18
  | 19 => exact ct_mr0_19
  | 20 => exact ct_mr0_20
  | 21 => exact fun _ h => absurd h List.not_mem_nil
  | 22 => exact ct_mr0_22
  | 23 => exact fun _ h => absurd h List.not_mem_nil
  | 24 => exact fun _ h => absurd h List.not_mem_nil
  | 25 => exact ct_mr0_25
  | 26 => exact ct_mr0_26
  | 27 => exact ct_mr0_27
  | 28 => exact fun _ h => absurd h List.not_mem_nil
  | n + 29 => exact fun _ h => absurd h (by simp [am_mlL])
theorem ct_mr {own x f k : Nat} (h : am_ml own x = some (f, k)) : ct_rng own f k := ct_mr0 own _ (ct_lk h)
