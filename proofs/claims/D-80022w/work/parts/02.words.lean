/-! the tables' words by their places -/
set_option maxRecDepth 100000
theorem q78 : (Jvm.Cond.initialized "MemoryTransactions") ∈ lw_tbl := lw_at lw_m1 1 rfl
theorem q112 : (Jvm.Cond.instantiable "MemoryTransactions" (10 : Nat)) ∈ lw_tbl := lw_at lw_m1 35 rfl
theorem q114 : (Jvm.Cond.instanceMethod ({ cls := "MemoryTransactions", name := "<init>", desc := "()V" } : Jvm.MethodName)) ∈ lw_tbl := lw_at lw_m1 37 rfl
theorem q115 : (Jvm.Cond.code ({ cls := "MemoryTransactions", name := "<init>", desc := "()V" } : Jvm.MethodName) prog_1_method_1_code (2 : Nat) (Option.none : Option Jvm.ClassFile.FieldType)) ∈ lw_tbl := lw_at lw_m1 38 rfl
theorem q116 : (Jvm.Cond.methodLink "MemoryTransactions" (3 : Nat) ({ cls := "java/lang/Object", name := "<init>", desc := "()V" } : Jvm.MethodName)) ∈ lw_tbl := lw_at lw_m1 39 rfl
theorem q119 : (Jvm.Cond.classLink "MemoryTransactions" (13 : Nat) "MemoryTransactions$Reader") ∈ lw_tbl := lw_at lw_m1 42 rfl
theorem q121 : (Jvm.Cond.methodLinkNest "MemoryTransactions" (15 : Nat) ({ cls := "MemoryTransactions$Reader", name := "<init>", desc := "()V" } : Jvm.MethodName) "MemoryTransactions") ∈ lw_tbl := lw_at lw_m1 44 rfl
theorem q198 : (Jvm.Cond.fieldLinkNest "MemoryTransactions" (76 : Nat) "MemoryTransactions$Reader" "place" "I" "MemoryTransactions") ∈ lw_tbl := lw_at lw_m1 121 rfl
theorem q228 : (Jvm.Cond.classLink "MemoryTransactions" (20 : Nat) "MemoryTransactions$Program") ∈ lw_tbl := lw_at lw_m1 151 rfl
theorem q230 : (Jvm.Cond.classLink "MemoryTransactions" (26 : Nat) "MemoryTransactions$Store") ∈ lw_tbl := lw_at lw_m1 153 rfl
theorem q232 : (Jvm.Cond.methodLinkNest "MemoryTransactions" (28 : Nat) ({ cls := "MemoryTransactions$Store", name := "<init>", desc := "()V" } : Jvm.MethodName) "MemoryTransactions") ∈ lw_tbl := lw_at lw_m1 155 rfl
theorem q272 : (Jvm.Cond.fieldLinkNest "MemoryTransactions" (98 : Nat) "MemoryTransactions$Store" "values" "[J" "MemoryTransactions") ∈ lw_tbl := lw_at lw_m1 195 rfl
theorem q275 : (Jvm.Cond.fieldLinkNest "MemoryTransactions" (106 : Nat) "MemoryTransactions$Store" "versions" "[I" "MemoryTransactions") ∈ lw_tbl := lw_at lw_m1 198 rfl
theorem q280 : (Jvm.Cond.fieldLinkNest "MemoryTransactions" (252 : Nat) "MemoryTransactions$Store" "ruleCount" "I" "MemoryTransactions") ∈ lw_tbl := lw_at lw_m1 203 rfl
theorem q294 : (Jvm.Cond.classLink "MemoryTransactions" (33 : Nat) "MemoryTransactions$Client") ∈ lw_tbl := lw_at lw_m1 217 rfl
theorem q296 : (Jvm.Cond.classLink "MemoryTransactions" (39 : Nat) "MemoryTransactions$Rows") ∈ lw_tbl := lw_at lw_m1 219 rfl
theorem q298 : (Jvm.Cond.methodLinkNest "MemoryTransactions" (41 : Nat) ({ cls := "MemoryTransactions$Rows", name := "<init>", desc := "()V" } : Jvm.MethodName) "MemoryTransactions") ∈ lw_tbl := lw_at lw_m1 221 rfl
theorem q305 : (Jvm.Cond.fieldLinkNest "MemoryTransactions" (255 : Nat) "MemoryTransactions$Rows" "kinds" "[LMemoryTransactions$Row;" "MemoryTransactions") ∈ lw_tbl := lw_at lw_m1 228 rfl
theorem q307 : (Jvm.Cond.fieldLinkNest "MemoryTransactions" (260 : Nat) "MemoryTransactions$Rows" "clients" "[I" "MemoryTransactions") ∈ lw_tbl := lw_at lw_m1 230 rfl
theorem q309 : (Jvm.Cond.fieldLinkNest "MemoryTransactions" (262 : Nat) "MemoryTransactions$Rows" "things" "[I" "MemoryTransactions") ∈ lw_tbl := lw_at lw_m1 232 rfl
theorem q311 : (Jvm.Cond.fieldLinkNest "MemoryTransactions" (265 : Nat) "MemoryTransactions$Rows" "steps" "[I" "MemoryTransactions") ∈ lw_tbl := lw_at lw_m1 234 rfl
theorem q313 : (Jvm.Cond.fieldLinkNest "MemoryTransactions" (267 : Nat) "MemoryTransactions$Rows" "cuts" "[I" "MemoryTransactions") ∈ lw_tbl := lw_at lw_m1 236 rfl
theorem q315 : (Jvm.Cond.fieldLinkNest "MemoryTransactions" (269 : Nat) "MemoryTransactions$Rows" "values" "[J" "MemoryTransactions") ∈ lw_tbl := lw_at lw_m1 238 rfl
theorem q317 : (Jvm.Cond.fieldLinkNest "MemoryTransactions" (95 : Nat) "MemoryTransactions$Rows" "count" "I" "MemoryTransactions") ∈ lw_tbl := lw_at lw_m2 0 rfl
theorem q333 : (Jvm.Cond.classLink "MemoryTransactions" (49 : Nat) "MemoryTransactions$Run") ∈ lw_tbl := lw_at lw_m2 16 rfl
theorem q335 : (Jvm.Cond.methodLink "MemoryTransactions" (51 : Nat) ({ cls := "MemoryTransactions$Run", name := "<init>", desc := "()V" } : Jvm.MethodName)) ∈ lw_tbl := lw_at lw_m2 18 rfl
theorem q365 : (Jvm.Cond.fieldLinkNest "MemoryTransactions" (240 : Nat) "MemoryTransactions$State" "isWritten" "I" "MemoryTransactions") ∈ lw_tbl := lw_at lw_m2 48 rfl
theorem q370 : (Jvm.Cond.fieldLinkNest "MemoryTransactions" (245 : Nat) "MemoryTransactions$State" "always" "I" "MemoryTransactions") ∈ lw_tbl := lw_at lw_m2 53 rfl
theorem q411 : (Jvm.Cond.fieldLinkNest "MemoryTransactions" (60 : Nat) "MemoryTransactions$Run" "store" "LMemoryTransactions$Store;" "MemoryTransactions") ∈ lw_tbl := lw_at lw_m2 94 rfl
theorem q415 : (Jvm.Cond.fieldLinkNest "MemoryTransactions" (236 : Nat) "MemoryTransactions$Run" "now" "LMemoryTransactions$State;" "MemoryTransactions") ∈ lw_tbl := lw_at lw_m2 98 rfl
theorem q420 : (Jvm.Cond.fieldLinkNest "MemoryTransactions" (233 : Nat) "MemoryTransactions$Run" "isRead" "I" "MemoryTransactions") ∈ lw_tbl := lw_at lw_m2 103 rfl
theorem q425 : (Jvm.Cond.fieldLinkNest "MemoryTransactions" (213 : Nat) "MemoryTransactions$Run" "steps" "I" "MemoryTransactions") ∈ lw_tbl := lw_at lw_m2 108 rfl
theorem q427 : (Jvm.Cond.fieldLinkNest "MemoryTransactions" (201 : Nat) "MemoryTransactions$Run" "value" "J" "MemoryTransactions") ∈ lw_tbl := lw_at lw_m2 110 rfl
theorem q463 : (Jvm.Cond.methodLinkNest "MemoryTransactions" (56 : Nat) ({ cls := "MemoryTransactions$Client", name := "<init>", desc := "()V" } : Jvm.MethodName) "MemoryTransactions") ∈ lw_tbl := lw_at lw_m2 146 rfl
theorem q472 : (Jvm.Cond.fieldLinkNest "MemoryTransactions" (124 : Nat) "MemoryTransactions$Client" "queue" "[I" "MemoryTransactions") ∈ lw_tbl := lw_at lw_m2 155 rfl
theorem q474 : (Jvm.Cond.fieldLinkNest "MemoryTransactions" (123 : Nat) "MemoryTransactions$Client" "count" "I" "MemoryTransactions") ∈ lw_tbl := lw_at lw_m2 157 rfl
theorem q476 : (Jvm.Cond.fieldLinkNest "MemoryTransactions" (216 : Nat) "MemoryTransactions$Client" "cuts" "I" "MemoryTransactions") ∈ lw_tbl := lw_at lw_m2 159 rfl
theorem q478 : (Jvm.Cond.fieldLinkNest "MemoryTransactions" (181 : Nat) "MemoryTransactions$Client" "urgent" "Z" "MemoryTransactions") ∈ lw_tbl := lw_at lw_m2 161 rfl
theorem q480 : (Jvm.Cond.fieldLinkNest "MemoryTransactions" (57 : Nat) "MemoryTransactions$Client" "run" "LMemoryTransactions$Run;" "MemoryTransactions") ∈ lw_tbl := lw_at lw_m2 163 rfl
theorem q482 : (Jvm.Cond.fieldLinkNest "MemoryTransactions" (127 : Nat) "MemoryTransactions$Client" "phase" "LMemoryTransactions$Phase;" "MemoryTransactions") ∈ lw_tbl := lw_at lw_m2 165 rfl
theorem q496 : (Jvm.Cond.fieldLink "MemoryTransactions" (9 : Nat) "MemoryTransactions" "tape" "[B") ∈ lw_tbl := lw_at lw_m2 179 rfl
theorem q497 : (Jvm.Cond.fieldLink "MemoryTransactions" (61 : Nat) "MemoryTransactions" "tapeSize" "I") ∈ lw_tbl := lw_at lw_m2 180 rfl
theorem q498 : (Jvm.Cond.fieldLink "MemoryTransactions" (16 : Nat) "MemoryTransactions" "reader" "LMemoryTransactions$Reader;") ∈ lw_tbl := lw_at lw_m2 181 rfl
theorem q499 : (Jvm.Cond.fieldLink "MemoryTransactions" (22 : Nat) "MemoryTransactions" "programs" "[LMemoryTransactions$Program;") ∈ lw_tbl := lw_at lw_m2 182 rfl
theorem q500 : (Jvm.Cond.fieldLink "MemoryTransactions" (69 : Nat) "MemoryTransactions" "programCount" "I") ∈ lw_tbl := lw_at lw_m2 183 rfl
theorem q501 : (Jvm.Cond.fieldLink "MemoryTransactions" (29 : Nat) "MemoryTransactions" "store" "LMemoryTransactions$Store;") ∈ lw_tbl := lw_at lw_m2 184 rfl
theorem q502 : (Jvm.Cond.fieldLink "MemoryTransactions" (35 : Nat) "MemoryTransactions" "clients" "[LMemoryTransactions$Client;") ∈ lw_tbl := lw_at lw_m2 185 rfl
theorem q503 : (Jvm.Cond.fieldLink "MemoryTransactions" (42 : Nat) "MemoryTransactions" "rows" "LMemoryTransactions$Rows;") ∈ lw_tbl := lw_at lw_m2 186 rfl
theorem q504 : (Jvm.Cond.fieldLink "MemoryTransactions" (46 : Nat) "MemoryTransactions" "other" "LMemoryTransactions$Store;") ∈ lw_tbl := lw_at lw_m2 187 rfl
theorem q505 : (Jvm.Cond.fieldLink "MemoryTransactions" (52 : Nat) "MemoryTransactions" "again" "LMemoryTransactions$Run;") ∈ lw_tbl := lw_at lw_m2 188 rfl
theorem q506 : (Jvm.Cond.laysFinal "MemoryTransactions" "MemoryTransactions" "tape" "[B") ∈ lw_tbl := lw_at lw_m2 189 rfl
theorem q507 : (Jvm.Cond.soleField "MemoryTransactions" "tape") ∈ lw_tbl := lw_at lw_m2 190 rfl
theorem q508 : (Jvm.Cond.lays "MemoryTransactions" "MemoryTransactions" "tapeSize" "I") ∈ lw_tbl := lw_at lw_m2 191 rfl
theorem q509 : (Jvm.Cond.soleField "MemoryTransactions" "tapeSize") ∈ lw_tbl := lw_at lw_m2 192 rfl
theorem q510 : (Jvm.Cond.laysFinal "MemoryTransactions" "MemoryTransactions" "reader" "LMemoryTransactions$Reader;") ∈ lw_tbl := lw_at lw_m2 193 rfl
theorem q511 : (Jvm.Cond.soleField "MemoryTransactions" "reader") ∈ lw_tbl := lw_at lw_m2 194 rfl
theorem q512 : (Jvm.Cond.laysFinal "MemoryTransactions" "MemoryTransactions" "programs" "[LMemoryTransactions$Program;") ∈ lw_tbl := lw_at lw_m2 195 rfl
theorem q513 : (Jvm.Cond.soleField "MemoryTransactions" "programs") ∈ lw_tbl := lw_at lw_m2 196 rfl
theorem q514 : (Jvm.Cond.lays "MemoryTransactions" "MemoryTransactions" "programCount" "I") ∈ lw_tbl := lw_at lw_m2 197 rfl
theorem q515 : (Jvm.Cond.soleField "MemoryTransactions" "programCount") ∈ lw_tbl := lw_at lw_m2 198 rfl
theorem q516 : (Jvm.Cond.laysFinal "MemoryTransactions" "MemoryTransactions" "store" "LMemoryTransactions$Store;") ∈ lw_tbl := lw_at lw_m2 199 rfl
theorem q517 : (Jvm.Cond.soleField "MemoryTransactions" "store") ∈ lw_tbl := lw_at lw_m2 200 rfl
theorem q518 : (Jvm.Cond.laysFinal "MemoryTransactions" "MemoryTransactions" "clients" "[LMemoryTransactions$Client;") ∈ lw_tbl := lw_at lw_m2 201 rfl
theorem q519 : (Jvm.Cond.soleField "MemoryTransactions" "clients") ∈ lw_tbl := lw_at lw_m2 202 rfl
theorem q520 : (Jvm.Cond.laysFinal "MemoryTransactions" "MemoryTransactions" "rows" "LMemoryTransactions$Rows;") ∈ lw_tbl := lw_at lw_m2 203 rfl
theorem q521 : (Jvm.Cond.soleField "MemoryTransactions" "rows") ∈ lw_tbl := lw_at lw_m2 204 rfl
theorem q522 : (Jvm.Cond.laysFinal "MemoryTransactions" "MemoryTransactions" "other" "LMemoryTransactions$Store;") ∈ lw_tbl := lw_at lw_m2 205 rfl
theorem q523 : (Jvm.Cond.soleField "MemoryTransactions" "other") ∈ lw_tbl := lw_at lw_m2 206 rfl
theorem q524 : (Jvm.Cond.laysFinal "MemoryTransactions" "MemoryTransactions" "again" "LMemoryTransactions$Run;") ∈ lw_tbl := lw_at lw_m2 207 rfl
theorem q525 : (Jvm.Cond.soleField "MemoryTransactions" "again") ∈ lw_tbl := lw_at lw_m2 208 rfl
theorem q526 : (Jvm.Cond.superclass "MemoryTransactions" "java/lang/Object") ∈ lw_tbl := lw_at lw_m2 209 rfl
theorem q528 : (Jvm.Cond.instanceMethod ({ cls := "MemoryTransactions", name := "feed", desc := "(IIIII)I" } : Jvm.MethodName)) ∈ lw_tbl := lw_at lw_m2 211 rfl
theorem q529 : (Jvm.Cond.selects "MemoryTransactions" ({ cls := "MemoryTransactions", name := "feed", desc := "(IIIII)I" } : Jvm.MethodName) ({ cls := "MemoryTransactions", name := "feed", desc := "(IIIII)I" } : Jvm.MethodName)) ∈ lw_tbl := lw_at lw_m2 212 rfl
theorem q530 : (Jvm.Cond.code ({ cls := "MemoryTransactions", name := "feed", desc := "(IIIII)I" } : Jvm.MethodName) prog_1_method_2_code (6 : Nat) (Option.some Jvm.ClassFile.FieldType.int)) ∈ lw_tbl := lw_at lw_m2 213 rfl
theorem q531 : (Jvm.Cond.methodLink "MemoryTransactions" (65 : Nat) ({ cls := "MemoryTransactions", name := "four", desc := "(I)V" } : Jvm.MethodName)) ∈ lw_tbl := lw_at lw_m2 214 rfl
theorem q532 : (Jvm.Cond.privateMethod ({ cls := "MemoryTransactions", name := "four", desc := "(I)V" } : Jvm.MethodName)) ∈ lw_tbl := lw_at lw_m2 215 rfl
theorem q533 : (Jvm.Cond.instanceMethod ({ cls := "MemoryTransactions", name := "four", desc := "(I)V" } : Jvm.MethodName)) ∈ lw_tbl := lw_at lw_m2 216 rfl
theorem q534 : (Jvm.Cond.code ({ cls := "MemoryTransactions", name := "four", desc := "(I)V" } : Jvm.MethodName) prog_1_method_3_code (3 : Nat) (Option.none : Option Jvm.ClassFile.FieldType)) ∈ lw_tbl := lw_at lw_m2 217 rfl
theorem q536 : (Jvm.Cond.instanceMethod ({ cls := "MemoryTransactions", name := "end", desc := "(I)I" } : Jvm.MethodName)) ∈ lw_tbl := lw_at lw_m2 219 rfl
theorem q537 : (Jvm.Cond.selects "MemoryTransactions" ({ cls := "MemoryTransactions", name := "end", desc := "(I)I" } : Jvm.MethodName) ({ cls := "MemoryTransactions", name := "end", desc := "(I)I" } : Jvm.MethodName)) ∈ lw_tbl := lw_at lw_m2 220 rfl
theorem q538 : (Jvm.Cond.code ({ cls := "MemoryTransactions", name := "end", desc := "(I)I" } : Jvm.MethodName) prog_1_method_4_code (2 : Nat) (Option.some Jvm.ClassFile.FieldType.int)) ∈ lw_tbl := lw_at lw_m2 221 rfl
theorem q540 : (Jvm.Cond.instanceMethod ({ cls := "MemoryTransactions", name := "text", desc := "()I" } : Jvm.MethodName)) ∈ lw_tbl := lw_at lw_m2 223 rfl
theorem q541 : (Jvm.Cond.selects "MemoryTransactions" ({ cls := "MemoryTransactions", name := "text", desc := "()I" } : Jvm.MethodName) ({ cls := "MemoryTransactions", name := "text", desc := "()I" } : Jvm.MethodName)) ∈ lw_tbl := lw_at lw_m2 224 rfl
theorem q542 : (Jvm.Cond.code ({ cls := "MemoryTransactions", name := "text", desc := "()I" } : Jvm.MethodName) prog_1_method_5_code (3 : Nat) (Option.some Jvm.ClassFile.FieldType.int)) ∈ lw_tbl := lw_at lw_m2 225 rfl
theorem q543 : (Jvm.Cond.methodLink "MemoryTransactions" (72 : Nat) ({ cls := "MemoryTransactions$Reader", name := "read", desc := "([BI)LMemoryTransactions$Program;" } : Jvm.MethodName)) ∈ lw_tbl := lw_at lw_m2 226 rfl
theorem q558 : (Jvm.Cond.fieldLinkNest "MemoryTransactions" (83 : Nat) "MemoryTransactions$Program" "statements" "I" "MemoryTransactions") ∈ lw_tbl := lw_at lw_m3 1 rfl
theorem q560 : (Jvm.Cond.fieldLinkNest "MemoryTransactions" (86 : Nat) "MemoryTransactions$Program" "unaries" "I" "MemoryTransactions") ∈ lw_tbl := lw_at lw_m3 3 rfl
theorem q562 : (Jvm.Cond.fieldLinkNest "MemoryTransactions" (89 : Nat) "MemoryTransactions$Program" "deep" "I" "MemoryTransactions") ∈ lw_tbl := lw_at lw_m3 5 rfl
theorem q843 : (Jvm.Cond.instanceMethod ({ cls := "MemoryTransactions", name := "place", desc := "()I" } : Jvm.MethodName)) ∈ lw_tbl := lw_at lw_m4 46 rfl
theorem q844 : (Jvm.Cond.selects "MemoryTransactions" ({ cls := "MemoryTransactions", name := "place", desc := "()I" } : Jvm.MethodName) ({ cls := "MemoryTransactions", name := "place", desc := "()I" } : Jvm.MethodName)) ∈ lw_tbl := lw_at lw_m4 47 rfl
theorem q845 : (Jvm.Cond.code ({ cls := "MemoryTransactions", name := "place", desc := "()I" } : Jvm.MethodName) prog_1_method_6_code (1 : Nat) (Option.some Jvm.ClassFile.FieldType.int)) ∈ lw_tbl := lw_at lw_m4 48 rfl
theorem q847 : (Jvm.Cond.instanceMethod ({ cls := "MemoryTransactions", name := "told", desc := "(II)I" } : Jvm.MethodName)) ∈ lw_tbl := lw_at lw_m4 50 rfl
theorem q848 : (Jvm.Cond.selects "MemoryTransactions" ({ cls := "MemoryTransactions", name := "told", desc := "(II)I" } : Jvm.MethodName) ({ cls := "MemoryTransactions", name := "told", desc := "(II)I" } : Jvm.MethodName)) ∈ lw_tbl := lw_at lw_m4 51 rfl
theorem q849 : (Jvm.Cond.code ({ cls := "MemoryTransactions", name := "told", desc := "(II)I" } : Jvm.MethodName) prog_1_method_8_code (4 : Nat) (Option.some Jvm.ClassFile.FieldType.int)) ∈ lw_tbl := lw_at lw_m4 52 rfl
theorem q850 : (Jvm.Cond.methodLink "MemoryTransactions" (79 : Nat) ({ cls := "MemoryTransactions", name := "isProgram", desc := "(I)Z" } : Jvm.MethodName)) ∈ lw_tbl := lw_at lw_m4 53 rfl
theorem q851 : (Jvm.Cond.privateMethod ({ cls := "MemoryTransactions", name := "isProgram", desc := "(I)Z" } : Jvm.MethodName)) ∈ lw_tbl := lw_at lw_m4 54 rfl
theorem q852 : (Jvm.Cond.instanceMethod ({ cls := "MemoryTransactions", name := "isProgram", desc := "(I)Z" } : Jvm.MethodName)) ∈ lw_tbl := lw_at lw_m4 55 rfl
theorem q853 : (Jvm.Cond.code ({ cls := "MemoryTransactions", name := "isProgram", desc := "(I)Z" } : Jvm.MethodName) prog_1_method_7_code (2 : Nat) (Option.some Jvm.ClassFile.FieldType.boolean)) ∈ lw_tbl := lw_at lw_m4 56 rfl
theorem q855 : (Jvm.Cond.instanceMethod ({ cls := "MemoryTransactions", name := "put", desc := "(IJ)I" } : Jvm.MethodName)) ∈ lw_tbl := lw_at lw_m4 58 rfl
theorem q856 : (Jvm.Cond.selects "MemoryTransactions" ({ cls := "MemoryTransactions", name := "put", desc := "(IJ)I" } : Jvm.MethodName) ({ cls := "MemoryTransactions", name := "put", desc := "(IJ)I" } : Jvm.MethodName)) ∈ lw_tbl := lw_at lw_m4 59 rfl
theorem q857 : (Jvm.Cond.code ({ cls := "MemoryTransactions", name := "put", desc := "(IJ)I" } : Jvm.MethodName) prog_1_method_10_code (6 : Nat) (Option.some Jvm.ClassFile.FieldType.int)) ∈ lw_tbl := lw_at lw_m4 60 rfl
theorem q858 : (Jvm.Cond.methodLink "MemoryTransactions" (92 : Nat) ({ cls := "MemoryTransactions", name := "isCell", desc := "(I)Z" } : Jvm.MethodName)) ∈ lw_tbl := lw_at lw_m4 61 rfl
theorem q859 : (Jvm.Cond.static ({ cls := "MemoryTransactions", name := "isCell", desc := "(I)Z" } : Jvm.MethodName)) ∈ lw_tbl := lw_at lw_m4 62 rfl
theorem q860 : (Jvm.Cond.code ({ cls := "MemoryTransactions", name := "isCell", desc := "(I)Z" } : Jvm.MethodName) prog_1_method_9_code (1 : Nat) (Option.some Jvm.ClassFile.FieldType.boolean)) ∈ lw_tbl := lw_at lw_m4 63 rfl
theorem q861 : (Jvm.Cond.methodLink "MemoryTransactions" (102 : Nat) ({ cls := "MemoryTransactions$Store", name := "hold", desc := "(LMemoryTransactions$Letters;)Z" } : Jvm.MethodName)) ∈ lw_tbl := lw_at lw_m4 64 rfl
theorem q914 : (Jvm.Cond.fieldLink "MemoryTransactions" (110 : Nat) "MemoryTransactions$Row" "PUT" "LMemoryTransactions$Row;") ∈ lw_tbl := lw_at lw_m4 117 rfl
theorem q916 : (Jvm.Cond.methodLink "MemoryTransactions" (116 : Nat) ({ cls := "MemoryTransactions$Rows", name := "add", desc := "(LMemoryTransactions$Row;IIIIJ)V" } : Jvm.MethodName)) ∈ lw_tbl := lw_at lw_m4 119 rfl
theorem q921 : (Jvm.Cond.instanceMethod ({ cls := "MemoryTransactions", name := "cell", desc := "(I)J" } : Jvm.MethodName)) ∈ lw_tbl := lw_at lw_m4 124 rfl
theorem q922 : (Jvm.Cond.selects "MemoryTransactions" ({ cls := "MemoryTransactions", name := "cell", desc := "(I)J" } : Jvm.MethodName) ({ cls := "MemoryTransactions", name := "cell", desc := "(I)J" } : Jvm.MethodName)) ∈ lw_tbl := lw_at lw_m4 125 rfl
theorem q923 : (Jvm.Cond.code ({ cls := "MemoryTransactions", name := "cell", desc := "(I)J" } : Jvm.MethodName) prog_1_method_11_code (2 : Nat) (Option.some Jvm.ClassFile.FieldType.long)) ∈ lw_tbl := lw_at lw_m4 126 rfl
theorem q925 : (Jvm.Cond.instanceMethod ({ cls := "MemoryTransactions", name := "version", desc := "(I)I" } : Jvm.MethodName)) ∈ lw_tbl := lw_at lw_m4 128 rfl
theorem q926 : (Jvm.Cond.selects "MemoryTransactions" ({ cls := "MemoryTransactions", name := "version", desc := "(I)I" } : Jvm.MethodName) ({ cls := "MemoryTransactions", name := "version", desc := "(I)I" } : Jvm.MethodName)) ∈ lw_tbl := lw_at lw_m4 129 rfl
theorem q927 : (Jvm.Cond.code ({ cls := "MemoryTransactions", name := "version", desc := "(I)I" } : Jvm.MethodName) prog_1_method_12_code (2 : Nat) (Option.some Jvm.ClassFile.FieldType.int)) ∈ lw_tbl := lw_at lw_m4 130 rfl
theorem q929 : (Jvm.Cond.instanceMethod ({ cls := "MemoryTransactions", name := "add", desc := "(II)I" } : Jvm.MethodName)) ∈ lw_tbl := lw_at lw_m4 132 rfl
theorem q930 : (Jvm.Cond.selects "MemoryTransactions" ({ cls := "MemoryTransactions", name := "add", desc := "(II)I" } : Jvm.MethodName) ({ cls := "MemoryTransactions", name := "add", desc := "(II)I" } : Jvm.MethodName)) ∈ lw_tbl := lw_at lw_m4 133 rfl
theorem q931 : (Jvm.Cond.code ({ cls := "MemoryTransactions", name := "add", desc := "(II)I" } : Jvm.MethodName) prog_1_method_14_code (4 : Nat) (Option.some Jvm.ClassFile.FieldType.int)) ∈ lw_tbl := lw_at lw_m4 134 rfl
theorem q932 : (Jvm.Cond.methodLink "MemoryTransactions" (120 : Nat) ({ cls := "MemoryTransactions", name := "isClient", desc := "(I)Z" } : Jvm.MethodName)) ∈ lw_tbl := lw_at lw_m4 135 rfl
theorem q933 : (Jvm.Cond.static ({ cls := "MemoryTransactions", name := "isClient", desc := "(I)Z" } : Jvm.MethodName)) ∈ lw_tbl := lw_at lw_m4 136 rfl
theorem q934 : (Jvm.Cond.code ({ cls := "MemoryTransactions", name := "isClient", desc := "(I)Z" } : Jvm.MethodName) prog_1_method_13_code (1 : Nat) (Option.some Jvm.ClassFile.FieldType.boolean)) ∈ lw_tbl := lw_at lw_m4 137 rfl
theorem q935 : (Jvm.Cond.fieldLink "MemoryTransactions" (131 : Nat) "MemoryTransactions$Phase" "IDLE" "LMemoryTransactions$Phase;") ∈ lw_tbl := lw_at lw_m4 138 rfl
theorem q936 : (Jvm.Cond.fieldLink "MemoryTransactions" (136 : Nat) "MemoryTransactions$Phase" "BEGINS" "LMemoryTransactions$Phase;") ∈ lw_tbl := lw_at lw_m4 139 rfl
theorem q939 : (Jvm.Cond.instanceMethod ({ cls := "MemoryTransactions", name := "turn", desc := "(I)I" } : Jvm.MethodName)) ∈ lw_tbl := lw_at lw_m4 142 rfl
theorem q940 : (Jvm.Cond.selects "MemoryTransactions" ({ cls := "MemoryTransactions", name := "turn", desc := "(I)I" } : Jvm.MethodName) ({ cls := "MemoryTransactions", name := "turn", desc := "(I)I" } : Jvm.MethodName)) ∈ lw_tbl := lw_at lw_m4 143 rfl
theorem q941 : (Jvm.Cond.code ({ cls := "MemoryTransactions", name := "turn", desc := "(I)I" } : Jvm.MethodName) prog_1_method_15_code (3 : Nat) (Option.some Jvm.ClassFile.FieldType.int)) ∈ lw_tbl := lw_at lw_m4 144 rfl
theorem q942 : (Jvm.Cond.fieldLink "MemoryTransactions" (139 : Nat) "MemoryTransactions$Outcome" "IDLE" "LMemoryTransactions$Outcome;") ∈ lw_tbl := lw_at lw_m4 145 rfl
theorem q944 : (Jvm.Cond.methodLink "MemoryTransactions" (144 : Nat) ({ cls := "MemoryTransactions$Outcome", name := "ordinal", desc := "()I" } : Jvm.MethodName)) ∈ lw_tbl := lw_at lw_m4 147 rfl
theorem q950 : (Jvm.Cond.fieldLink "MemoryTransactions" (148 : Nat) "MemoryTransactions$Phase" "WAITS" "LMemoryTransactions$Phase;") ∈ lw_tbl := lw_at lw_m4 153 rfl
theorem q952 : (Jvm.Cond.methodLink "MemoryTransactions" (151 : Nat) ({ cls := "MemoryTransactions$Run", name := "isFresh", desc := "()Z" } : Jvm.MethodName)) ∈ lw_tbl := lw_at lw_m4 155 rfl
theorem q953 : (Jvm.Cond.fieldLink "MemoryTransactions" (155 : Nat) "MemoryTransactions$Outcome" "WAITS" "LMemoryTransactions$Outcome;") ∈ lw_tbl := lw_at lw_m4 156 rfl
theorem q955 : (Jvm.Cond.fieldLink "MemoryTransactions" (157 : Nat) "MemoryTransactions$Phase" "RUNS" "LMemoryTransactions$Phase;") ∈ lw_tbl := lw_at lw_m4 158 rfl
theorem q957 : (Jvm.Cond.methodLink "MemoryTransactions" (160 : Nat) ({ cls := "MemoryTransactions$Run", name := "begin", desc := "(LMemoryTransactions$Store;LMemoryTransactions$Program;)V" } : Jvm.MethodName)) ∈ lw_tbl := lw_at lw_m4 160 rfl
theorem q968 : (Jvm.Cond.methodLink "MemoryTransactions" (164 : Nat) ({ cls := "MemoryTransactions$Run", name := "step", desc := "()LMemoryTransactions$Outcome;" } : Jvm.MethodName)) ∈ lw_tbl := lw_at lw_m4 171 rfl
theorem q1020 : (Jvm.Cond.methodLink "MemoryTransactions" (168 : Nat) ({ cls := "MemoryTransactions", name := "judged", desc := "(ILMemoryTransactions$Outcome;)I" } : Jvm.MethodName)) ∈ lw_tbl := lw_at lw_m4 223 rfl
theorem q1021 : (Jvm.Cond.privateMethod ({ cls := "MemoryTransactions", name := "judged", desc := "(ILMemoryTransactions$Outcome;)I" } : Jvm.MethodName)) ∈ lw_tbl := lw_at lw_m4 224 rfl
theorem q1022 : (Jvm.Cond.instanceMethod ({ cls := "MemoryTransactions", name := "judged", desc := "(ILMemoryTransactions$Outcome;)I" } : Jvm.MethodName)) ∈ lw_tbl := lw_at lw_m4 225 rfl
theorem q1023 : (Jvm.Cond.code ({ cls := "MemoryTransactions", name := "judged", desc := "(ILMemoryTransactions$Outcome;)I" } : Jvm.MethodName) prog_1_method_16_code (4 : Nat) (Option.some Jvm.ClassFile.FieldType.int)) ∈ lw_tbl := lw_at lw_m4 226 rfl
theorem q1024 : (Jvm.Cond.methodLink "MemoryTransactions" (172 : Nat) ({ cls := "MemoryTransactions$Client", name := "cut", desc := "()V" } : Jvm.MethodName)) ∈ lw_tbl := lw_at lw_m4 227 rfl
theorem q1029 : (Jvm.Cond.methodLink "MemoryTransactions" (175 : Nat) ({ cls := "MemoryTransactions$Client", name := "waits", desc := "()V" } : Jvm.MethodName)) ∈ lw_tbl := lw_at lw_m4 232 rfl
theorem q1034 : (Jvm.Cond.methodLink "MemoryTransactions" (178 : Nat) ({ cls := "MemoryTransactions", name := "ended", desc := "(ILMemoryTransactions$Outcome;)I" } : Jvm.MethodName)) ∈ lw_tbl := lw_at lw_m4 237 rfl
theorem q1035 : (Jvm.Cond.privateMethod ({ cls := "MemoryTransactions", name := "ended", desc := "(ILMemoryTransactions$Outcome;)I" } : Jvm.MethodName)) ∈ lw_tbl := lw_at lw_m4 238 rfl
theorem q1036 : (Jvm.Cond.instanceMethod ({ cls := "MemoryTransactions", name := "ended", desc := "(ILMemoryTransactions$Outcome;)I" } : Jvm.MethodName)) ∈ lw_tbl := lw_at lw_m4 239 rfl
theorem q1037 : (Jvm.Cond.code ({ cls := "MemoryTransactions", name := "ended", desc := "(ILMemoryTransactions$Outcome;)I" } : Jvm.MethodName) prog_1_method_18_code (7 : Nat) (Option.some Jvm.ClassFile.FieldType.int)) ∈ lw_tbl := lw_at lw_m5 0 rfl
theorem q1038 : (Jvm.Cond.methodLink "MemoryTransactions" (185 : Nat) ({ cls := "MemoryTransactions", name := "isHeld", desc := "(I)Z" } : Jvm.MethodName)) ∈ lw_tbl := lw_at lw_m5 1 rfl
theorem q1039 : (Jvm.Cond.privateMethod ({ cls := "MemoryTransactions", name := "isHeld", desc := "(I)Z" } : Jvm.MethodName)) ∈ lw_tbl := lw_at lw_m5 2 rfl
theorem q1040 : (Jvm.Cond.instanceMethod ({ cls := "MemoryTransactions", name := "isHeld", desc := "(I)Z" } : Jvm.MethodName)) ∈ lw_tbl := lw_at lw_m5 3 rfl
theorem q1041 : (Jvm.Cond.code ({ cls := "MemoryTransactions", name := "isHeld", desc := "(I)Z" } : Jvm.MethodName) prog_1_method_17_code (4 : Nat) (Option.some Jvm.ClassFile.FieldType.boolean)) ∈ lw_tbl := lw_at lw_m5 4 rfl
theorem q1042 : (Jvm.Cond.methodLink "MemoryTransactions" (188 : Nat) ({ cls := "MemoryTransactions$Run", name := "undo", desc := "()V" } : Jvm.MethodName)) ∈ lw_tbl := lw_at lw_m5 5 rfl
theorem q1046 : (Jvm.Cond.fieldLink "MemoryTransactions" (191 : Nat) "MemoryTransactions$Outcome" "HELD" "LMemoryTransactions$Outcome;") ∈ lw_tbl := lw_at lw_m5 9 rfl
theorem q1048 : (Jvm.Cond.fieldLink "MemoryTransactions" (194 : Nat) "MemoryTransactions$Outcome" "DONE" "LMemoryTransactions$Outcome;") ∈ lw_tbl := lw_at lw_m5 11 rfl
theorem q1049 : (Jvm.Cond.methodLink "MemoryTransactions" (197 : Nat) ({ cls := "MemoryTransactions$Run", name := "hold", desc := "()Z" } : Jvm.MethodName)) ∈ lw_tbl := lw_at lw_m5 12 rfl
theorem q1055 : (Jvm.Cond.constantLong "MemoryTransactions" (199 : Nat) (-2 : Int64)) ∈ lw_tbl := lw_at lw_m5 18 rfl
theorem q1056 : (Jvm.Cond.methodLink "MemoryTransactions" (205 : Nat) ({ cls := "MemoryTransactions$Run", name := "join", desc := "()V" } : Jvm.MethodName)) ∈ lw_tbl := lw_at lw_m5 19 rfl
theorem q1064 : (Jvm.Cond.fieldLink "MemoryTransactions" (208 : Nat) "MemoryTransactions$Row" "DONE" "LMemoryTransactions$Row;") ∈ lw_tbl := lw_at lw_m5 27 rfl
theorem q1066 : (Jvm.Cond.fieldLink "MemoryTransactions" (210 : Nat) "MemoryTransactions$Row" "THROWN" "LMemoryTransactions$Row;") ∈ lw_tbl := lw_at lw_m5 29 rfl
theorem q1068 : (Jvm.Cond.methodLink "MemoryTransactions" (219 : Nat) ({ cls := "MemoryTransactions$Client", name := "over", desc := "()V" } : Jvm.MethodName)) ∈ lw_tbl := lw_at lw_m5 31 rfl
theorem q1073 : (Jvm.Cond.fieldLink "MemoryTransactions" (222 : Nat) "MemoryTransactions$Outcome" "THROWN" "LMemoryTransactions$Outcome;") ∈ lw_tbl := lw_at lw_m5 36 rfl
theorem q1075 : (Jvm.Cond.instanceMethod ({ cls := "MemoryTransactions", name := "play", desc := "(JI)I" } : Jvm.MethodName)) ∈ lw_tbl := lw_at lw_m5 38 rfl
theorem q1076 : (Jvm.Cond.selects "MemoryTransactions" ({ cls := "MemoryTransactions", name := "play", desc := "(JI)I" } : Jvm.MethodName) ({ cls := "MemoryTransactions", name := "play", desc := "(JI)I" } : Jvm.MethodName)) ∈ lw_tbl := lw_at lw_m5 39 rfl
theorem q1077 : (Jvm.Cond.code ({ cls := "MemoryTransactions", name := "play", desc := "(JI)I" } : Jvm.MethodName) prog_1_method_19_code (8 : Nat) (Option.some Jvm.ClassFile.FieldType.int)) ∈ lw_tbl := lw_at lw_m5 40 rfl
theorem q1078 : (Jvm.Cond.constantLong "MemoryTransactions" (224 : Nat) (6364136223846793005 : Int64)) ∈ lw_tbl := lw_at lw_m5 41 rfl
theorem q1079 : (Jvm.Cond.constantLong "MemoryTransactions" (226 : Nat) (1442695040888963407 : Int64)) ∈ lw_tbl := lw_at lw_m5 42 rfl
theorem q1080 : (Jvm.Cond.methodLink "MemoryTransactions" (228 : Nat) ({ cls := "MemoryTransactions", name := "turn", desc := "(I)I" } : Jvm.MethodName)) ∈ lw_tbl := lw_at lw_m5 43 rfl
theorem q1082 : (Jvm.Cond.instanceMethod ({ cls := "MemoryTransactions", name := "client", desc := "(II)I" } : Jvm.MethodName)) ∈ lw_tbl := lw_at lw_m5 45 rfl
theorem q1083 : (Jvm.Cond.selects "MemoryTransactions" ({ cls := "MemoryTransactions", name := "client", desc := "(II)I" } : Jvm.MethodName) ({ cls := "MemoryTransactions", name := "client", desc := "(II)I" } : Jvm.MethodName)) ∈ lw_tbl := lw_at lw_m5 46 rfl
theorem q1084 : (Jvm.Cond.code ({ cls := "MemoryTransactions", name := "client", desc := "(II)I" } : Jvm.MethodName) prog_1_method_20_code (5 : Nat) (Option.some Jvm.ClassFile.FieldType.int)) ∈ lw_tbl := lw_at lw_m5 47 rfl
theorem q1085 : (Jvm.Cond.methodLink "MemoryTransactions" (232 : Nat) ({ cls := "MemoryTransactions$Phase", name := "ordinal", desc := "()I" } : Jvm.MethodName)) ∈ lw_tbl := lw_at lw_m5 48 rfl
theorem q1089 : (Jvm.Cond.instanceMethod ({ cls := "MemoryTransactions", name := "sees", desc := "(II)J" } : Jvm.MethodName)) ∈ lw_tbl := lw_at lw_m5 52 rfl
theorem q1090 : (Jvm.Cond.selects "MemoryTransactions" ({ cls := "MemoryTransactions", name := "sees", desc := "(II)J" } : Jvm.MethodName) ({ cls := "MemoryTransactions", name := "sees", desc := "(II)J" } : Jvm.MethodName)) ∈ lw_tbl := lw_at lw_m5 53 rfl
theorem q1091 : (Jvm.Cond.code ({ cls := "MemoryTransactions", name := "sees", desc := "(II)J" } : Jvm.MethodName) prog_1_method_21_code (3 : Nat) (Option.some Jvm.ClassFile.FieldType.long)) ∈ lw_tbl := lw_at lw_m5 54 rfl
theorem q1092 : (Jvm.Cond.methodLink "MemoryTransactions" (248 : Nat) ({ cls := "MemoryTransactions$Run", name := "sees", desc := "(I)J" } : Jvm.MethodName)) ∈ lw_tbl := lw_at lw_m5 55 rfl
theorem q1094 : (Jvm.Cond.instanceMethod ({ cls := "MemoryTransactions", name := "rules", desc := "()I" } : Jvm.MethodName)) ∈ lw_tbl := lw_at lw_m5 57 rfl
theorem q1095 : (Jvm.Cond.selects "MemoryTransactions" ({ cls := "MemoryTransactions", name := "rules", desc := "()I" } : Jvm.MethodName) ({ cls := "MemoryTransactions", name := "rules", desc := "()I" } : Jvm.MethodName)) ∈ lw_tbl := lw_at lw_m5 58 rfl
theorem q1096 : (Jvm.Cond.code ({ cls := "MemoryTransactions", name := "rules", desc := "()I" } : Jvm.MethodName) prog_1_method_22_code (1 : Nat) (Option.some Jvm.ClassFile.FieldType.int)) ∈ lw_tbl := lw_at lw_m5 59 rfl
theorem q1098 : (Jvm.Cond.instanceMethod ({ cls := "MemoryTransactions", name := "rows", desc := "()I" } : Jvm.MethodName)) ∈ lw_tbl := lw_at lw_m5 61 rfl
theorem q1099 : (Jvm.Cond.selects "MemoryTransactions" ({ cls := "MemoryTransactions", name := "rows", desc := "()I" } : Jvm.MethodName) ({ cls := "MemoryTransactions", name := "rows", desc := "()I" } : Jvm.MethodName)) ∈ lw_tbl := lw_at lw_m5 62 rfl
theorem q1100 : (Jvm.Cond.code ({ cls := "MemoryTransactions", name := "rows", desc := "()I" } : Jvm.MethodName) prog_1_method_23_code (1 : Nat) (Option.some Jvm.ClassFile.FieldType.int)) ∈ lw_tbl := lw_at lw_m5 63 rfl
theorem q1102 : (Jvm.Cond.instanceMethod ({ cls := "MemoryTransactions", name := "row", desc := "(II)I" } : Jvm.MethodName)) ∈ lw_tbl := lw_at lw_m5 65 rfl
theorem q1103 : (Jvm.Cond.selects "MemoryTransactions" ({ cls := "MemoryTransactions", name := "row", desc := "(II)I" } : Jvm.MethodName) ({ cls := "MemoryTransactions", name := "row", desc := "(II)I" } : Jvm.MethodName)) ∈ lw_tbl := lw_at lw_m5 66 rfl
theorem q1104 : (Jvm.Cond.code ({ cls := "MemoryTransactions", name := "row", desc := "(II)I" } : Jvm.MethodName) prog_1_method_24_code (3 : Nat) (Option.some Jvm.ClassFile.FieldType.int)) ∈ lw_tbl := lw_at lw_m5 67 rfl
theorem q1105 : (Jvm.Cond.methodLink "MemoryTransactions" (259 : Nat) ({ cls := "MemoryTransactions$Row", name := "ordinal", desc := "()I" } : Jvm.MethodName)) ∈ lw_tbl := lw_at lw_m5 68 rfl
theorem q1109 : (Jvm.Cond.instanceMethod ({ cls := "MemoryTransactions", name := "value", desc := "(I)J" } : Jvm.MethodName)) ∈ lw_tbl := lw_at lw_m5 72 rfl
theorem q1110 : (Jvm.Cond.selects "MemoryTransactions" ({ cls := "MemoryTransactions", name := "value", desc := "(I)J" } : Jvm.MethodName) ({ cls := "MemoryTransactions", name := "value", desc := "(I)J" } : Jvm.MethodName)) ∈ lw_tbl := lw_at lw_m5 73 rfl
theorem q1111 : (Jvm.Cond.code ({ cls := "MemoryTransactions", name := "value", desc := "(I)J" } : Jvm.MethodName) prog_1_method_25_code (2 : Nat) (Option.some Jvm.ClassFile.FieldType.long)) ∈ lw_tbl := lw_at lw_m5 74 rfl
theorem q1113 : (Jvm.Cond.instanceMethod ({ cls := "MemoryTransactions", name := "replays", desc := "()I" } : Jvm.MethodName)) ∈ lw_tbl := lw_at lw_m5 76 rfl
theorem q1114 : (Jvm.Cond.selects "MemoryTransactions" ({ cls := "MemoryTransactions", name := "replays", desc := "()I" } : Jvm.MethodName) ({ cls := "MemoryTransactions", name := "replays", desc := "()I" } : Jvm.MethodName)) ∈ lw_tbl := lw_at lw_m5 77 rfl
theorem q1115 : (Jvm.Cond.code ({ cls := "MemoryTransactions", name := "replays", desc := "()I" } : Jvm.MethodName) prog_1_method_27_code (3 : Nat) (Option.some Jvm.ClassFile.FieldType.int)) ∈ lw_tbl := lw_at lw_m5 78 rfl
theorem q1116 : (Jvm.Cond.methodLink "MemoryTransactions" (277 : Nat) ({ cls := "MemoryTransactions$Store", name := "clear", desc := "()V" } : Jvm.MethodName)) ∈ lw_tbl := lw_at lw_m5 79 rfl
theorem q1124 : (Jvm.Cond.methodLink "MemoryTransactions" (280 : Nat) ({ cls := "MemoryTransactions", name := "isSame", desc := "(I)Z" } : Jvm.MethodName)) ∈ lw_tbl := lw_at lw_m5 87 rfl
theorem q1125 : (Jvm.Cond.privateMethod ({ cls := "MemoryTransactions", name := "isSame", desc := "(I)Z" } : Jvm.MethodName)) ∈ lw_tbl := lw_at lw_m5 88 rfl
theorem q1126 : (Jvm.Cond.instanceMethod ({ cls := "MemoryTransactions", name := "isSame", desc := "(I)Z" } : Jvm.MethodName)) ∈ lw_tbl := lw_at lw_m5 89 rfl
theorem q1127 : (Jvm.Cond.code ({ cls := "MemoryTransactions", name := "isSame", desc := "(I)Z" } : Jvm.MethodName) prog_1_method_26_code (6 : Nat) (Option.some Jvm.ClassFile.FieldType.boolean)) ∈ lw_tbl := lw_at lw_m5 90 rfl
theorem q1128 : (Jvm.Cond.methodLink "MemoryTransactions" (270 : Nat) ({ cls := "MemoryTransactions$Store", name := "write", desc := "(IJ)V" } : Jvm.MethodName)) ∈ lw_tbl := lw_at lw_m5 91 rfl
theorem q1129 : (Jvm.Cond.fieldLink "MemoryTransactions" (274 : Nat) "MemoryTransactions$Outcome" "STEP" "LMemoryTransactions$Outcome;") ∈ lw_tbl := lw_at lw_m5 92 rfl
theorem q1130 : (Jvm.Cond.methodLink "MemoryTransactions" (283 : Nat) ({ cls := "MemoryTransactions$Store", name := "isSame", desc := "(LMemoryTransactions$Store;)Z" } : Jvm.MethodName)) ∈ lw_tbl := lw_at lw_m5 93 rfl
theorem q1135 : (Jvm.Cond.instanceMethod ({ cls := "MemoryTransactions", name := "clear", desc := "()I" } : Jvm.MethodName)) ∈ lw_tbl := lw_at lw_m5 98 rfl
theorem q1136 : (Jvm.Cond.selects "MemoryTransactions" ({ cls := "MemoryTransactions", name := "clear", desc := "()I" } : Jvm.MethodName) ({ cls := "MemoryTransactions", name := "clear", desc := "()I" } : Jvm.MethodName)) ∈ lw_tbl := lw_at lw_m5 99 rfl
theorem q1137 : (Jvm.Cond.code ({ cls := "MemoryTransactions", name := "clear", desc := "()I" } : Jvm.MethodName) prog_1_method_28_code (3 : Nat) (Option.some Jvm.ClassFile.FieldType.int)) ∈ lw_tbl := lw_at lw_m5 100 rfl
theorem q1138 : (Jvm.Cond.methodLink "MemoryTransactions" (286 : Nat) ({ cls := "MemoryTransactions$Client", name := "clear", desc := "()V" } : Jvm.MethodName)) ∈ lw_tbl := lw_at lw_m5 101 rfl
theorem q79 : (Jvm.Cond.initialized "MemoryTransactions$Reader") ∈ lw_tbl := lw_at lw_m1 2 rfl
theorem q120 : (Jvm.Cond.instantiable "MemoryTransactions$Reader" (11 : Nat)) ∈ lw_tbl := lw_at lw_m1 43 rfl
theorem q122 : (Jvm.Cond.instanceMethod ({ cls := "MemoryTransactions$Reader", name := "<init>", desc := "()V" } : Jvm.MethodName)) ∈ lw_tbl := lw_at lw_m1 45 rfl
theorem q123 : (Jvm.Cond.code ({ cls := "MemoryTransactions$Reader", name := "<init>", desc := "()V" } : Jvm.MethodName) prog_12_method_1_code (1 : Nat) (Option.none : Option Jvm.ClassFile.FieldType)) ∈ lw_tbl := lw_at lw_m1 46 rfl
theorem q124 : (Jvm.Cond.methodLink "MemoryTransactions$Reader" (3 : Nat) ({ cls := "java/lang/Object", name := "<init>", desc := "()V" } : Jvm.MethodName)) ∈ lw_tbl := lw_at lw_m1 47 rfl
theorem q125 : (Jvm.Cond.classLink "MemoryTransactions$Reader" (9 : Nat) "MemoryTransactions$Fault") ∈ lw_tbl := lw_at lw_m1 48 rfl
theorem q166 : (Jvm.Cond.methodLink "MemoryTransactions$Reader" (11 : Nat) ({ cls := "MemoryTransactions$Fault", name := "<init>", desc := "()V" } : Jvm.MethodName)) ∈ lw_tbl := lw_at lw_m1 89 rfl
theorem q193 : (Jvm.Cond.fieldLink "MemoryTransactions$Reader" (12 : Nat) "MemoryTransactions$Reader" "fault" "LMemoryTransactions$Fault;") ∈ lw_tbl := lw_at lw_m1 116 rfl
theorem q194 : (Jvm.Cond.fieldLink "MemoryTransactions$Reader" (18 : Nat) "MemoryTransactions$Reader" "text" "[B") ∈ lw_tbl := lw_at lw_m1 117 rfl
theorem q195 : (Jvm.Cond.fieldLink "MemoryTransactions$Reader" (26 : Nat) "MemoryTransactions$Reader" "size" "I") ∈ lw_tbl := lw_at lw_m1 118 rfl
theorem q196 : (Jvm.Cond.fieldLink "MemoryTransactions$Reader" (29 : Nat) "MemoryTransactions$Reader" "at" "I") ∈ lw_tbl := lw_at lw_m1 119 rfl
theorem q197 : (Jvm.Cond.fieldLink "MemoryTransactions$Reader" (22 : Nat) "MemoryTransactions$Reader" "place" "I") ∈ lw_tbl := lw_at lw_m1 120 rfl
theorem q199 : (Jvm.Cond.fieldLink "MemoryTransactions$Reader" (39 : Nat) "MemoryTransactions$Reader" "kind" "C") ∈ lw_tbl := lw_at lw_m1 122 rfl
theorem q200 : (Jvm.Cond.fieldLink "MemoryTransactions$Reader" (36 : Nat) "MemoryTransactions$Reader" "start" "I") ∈ lw_tbl := lw_at lw_m1 123 rfl
theorem q201 : (Jvm.Cond.fieldLink "MemoryTransactions$Reader" (53 : Nat) "MemoryTransactions$Reader" "number" "J") ∈ lw_tbl := lw_at lw_m1 124 rfl
theorem q202 : (Jvm.Cond.fieldLink "MemoryTransactions$Reader" (47 : Nat) "MemoryTransactions$Reader" "letter" "I") ∈ lw_tbl := lw_at lw_m1 125 rfl
theorem q203 : (Jvm.Cond.fieldLink "MemoryTransactions$Reader" (100 : Nat) "MemoryTransactions$Reader" "program" "LMemoryTransactions$Program;") ∈ lw_tbl := lw_at lw_m1 126 rfl
theorem q204 : (Jvm.Cond.fieldLink "MemoryTransactions$Reader" (93 : Nat) "MemoryTransactions$Reader" "noLocals" "Z") ∈ lw_tbl := lw_at lw_m1 127 rfl
theorem q205 : (Jvm.Cond.laysFinal "MemoryTransactions$Reader" "MemoryTransactions$Reader" "fault" "LMemoryTransactions$Fault;") ∈ lw_tbl := lw_at lw_m1 128 rfl
theorem q206 : (Jvm.Cond.soleField "MemoryTransactions$Reader" "fault") ∈ lw_tbl := lw_at lw_m1 129 rfl
theorem q207 : (Jvm.Cond.laysFinal "MemoryTransactions$Reader" "MemoryTransactions$Reader" "text" "[B") ∈ lw_tbl := lw_at lw_m1 130 rfl
theorem q208 : (Jvm.Cond.soleField "MemoryTransactions$Reader" "text") ∈ lw_tbl := lw_at lw_m1 131 rfl
theorem q209 : (Jvm.Cond.lays "MemoryTransactions$Reader" "MemoryTransactions$Reader" "size" "I") ∈ lw_tbl := lw_at lw_m1 132 rfl
theorem q210 : (Jvm.Cond.soleField "MemoryTransactions$Reader" "size") ∈ lw_tbl := lw_at lw_m1 133 rfl
theorem q211 : (Jvm.Cond.lays "MemoryTransactions$Reader" "MemoryTransactions$Reader" "at" "I") ∈ lw_tbl := lw_at lw_m1 134 rfl
theorem q212 : (Jvm.Cond.soleField "MemoryTransactions$Reader" "at") ∈ lw_tbl := lw_at lw_m1 135 rfl
theorem q213 : (Jvm.Cond.lays "MemoryTransactions$Reader" "MemoryTransactions$Reader" "place" "I") ∈ lw_tbl := lw_at lw_m1 136 rfl
theorem q214 : (Jvm.Cond.soleField "MemoryTransactions$Reader" "place") ∈ lw_tbl := lw_at lw_m1 137 rfl
theorem q215 : (Jvm.Cond.lays "MemoryTransactions$Reader" "MemoryTransactions$Reader" "kind" "C") ∈ lw_tbl := lw_at lw_m1 138 rfl
theorem q216 : (Jvm.Cond.soleField "MemoryTransactions$Reader" "kind") ∈ lw_tbl := lw_at lw_m1 139 rfl
theorem q217 : (Jvm.Cond.lays "MemoryTransactions$Reader" "MemoryTransactions$Reader" "start" "I") ∈ lw_tbl := lw_at lw_m1 140 rfl
theorem q218 : (Jvm.Cond.soleField "MemoryTransactions$Reader" "start") ∈ lw_tbl := lw_at lw_m1 141 rfl
theorem q219 : (Jvm.Cond.lays "MemoryTransactions$Reader" "MemoryTransactions$Reader" "number" "J") ∈ lw_tbl := lw_at lw_m1 142 rfl
theorem q220 : (Jvm.Cond.soleField "MemoryTransactions$Reader" "number") ∈ lw_tbl := lw_at lw_m1 143 rfl
theorem q221 : (Jvm.Cond.lays "MemoryTransactions$Reader" "MemoryTransactions$Reader" "letter" "I") ∈ lw_tbl := lw_at lw_m1 144 rfl
theorem q222 : (Jvm.Cond.soleField "MemoryTransactions$Reader" "letter") ∈ lw_tbl := lw_at lw_m1 145 rfl
theorem q223 : (Jvm.Cond.lays "MemoryTransactions$Reader" "MemoryTransactions$Reader" "program" "LMemoryTransactions$Program;") ∈ lw_tbl := lw_at lw_m1 146 rfl
theorem q224 : (Jvm.Cond.soleField "MemoryTransactions$Reader" "program") ∈ lw_tbl := lw_at lw_m1 147 rfl
theorem q225 : (Jvm.Cond.lays "MemoryTransactions$Reader" "MemoryTransactions$Reader" "noLocals" "Z") ∈ lw_tbl := lw_at lw_m1 148 rfl
theorem q226 : (Jvm.Cond.soleField "MemoryTransactions$Reader" "noLocals") ∈ lw_tbl := lw_at lw_m1 149 rfl
theorem q227 : (Jvm.Cond.superclass "MemoryTransactions$Reader" "java/lang/Object") ∈ lw_tbl := lw_at lw_m1 150 rfl
theorem q544 : (Jvm.Cond.instanceMethod ({ cls := "MemoryTransactions$Reader", name := "read", desc := "([BI)LMemoryTransactions$Program;" } : Jvm.MethodName)) ∈ lw_tbl := lw_at lw_m2 227 rfl
theorem q545 : (Jvm.Cond.selects "MemoryTransactions$Reader" ({ cls := "MemoryTransactions$Reader", name := "read", desc := "([BI)LMemoryTransactions$Program;" } : Jvm.MethodName) ({ cls := "MemoryTransactions$Reader", name := "read", desc := "([BI)LMemoryTransactions$Program;" } : Jvm.MethodName)) ∈ lw_tbl := lw_at lw_m2 228 rfl
theorem q546 : (Jvm.Cond.codeWith ({ cls := "MemoryTransactions$Reader", name := "read", desc := "([BI)LMemoryTransactions$Program;" } : Jvm.MethodName) prog_12_method_10_code (4 : Nat) (Option.some (Jvm.ClassFile.FieldType.object "MemoryTransactions$Program")) [((46 : Nat), (59 : Nat), (62 : Nat), (9 : Nat))]) ∈ lw_tbl := lw_at lw_m2 229 rfl
theorem q547 : (Jvm.Cond.methodLink "MemoryTransactions$Reader" (87 : Nat) ({ cls := "java/lang/System", name := "arraycopy", desc := "(Ljava/lang/Object;ILjava/lang/Object;II)V" } : Jvm.MethodName)) ∈ lw_tbl := lw_at lw_m2 230 rfl
theorem q550 : (Jvm.Cond.classLink "MemoryTransactions$Reader" (97 : Nat) "MemoryTransactions$Program") ∈ lw_tbl := lw_at lw_m2 233 rfl
theorem q552 : (Jvm.Cond.methodLinkNest "MemoryTransactions$Reader" (99 : Nat) ({ cls := "MemoryTransactions$Program", name := "<init>", desc := "()V" } : Jvm.MethodName) "MemoryTransactions") ∈ lw_tbl := lw_at lw_m2 235 rfl
theorem q557 : (Jvm.Cond.fieldLinkNest "MemoryTransactions$Reader" (108 : Nat) "MemoryTransactions$Program" "first" "LMemoryTransactions$Statement;" "MemoryTransactions") ∈ lw_tbl := lw_at lw_m3 0 rfl
theorem q559 : (Jvm.Cond.fieldLinkNest "MemoryTransactions$Reader" (137 : Nat) "MemoryTransactions$Program" "statements" "I" "MemoryTransactions") ∈ lw_tbl := lw_at lw_m3 2 rfl
theorem q561 : (Jvm.Cond.fieldLinkNest "MemoryTransactions$Reader" (241 : Nat) "MemoryTransactions$Program" "unaries" "I" "MemoryTransactions") ∈ lw_tbl := lw_at lw_m3 4 rfl
theorem q563 : (Jvm.Cond.fieldLinkNest "MemoryTransactions$Reader" (120 : Nat) "MemoryTransactions$Program" "deep" "I" "MemoryTransactions") ∈ lw_tbl := lw_at lw_m3 6 rfl
theorem q573 : (Jvm.Cond.methodLink "MemoryTransactions$Reader" (72 : Nat) ({ cls := "MemoryTransactions$Reader", name := "next", desc := "()V" } : Jvm.MethodName)) ∈ lw_tbl := lw_at lw_m3 16 rfl
theorem q574 : (Jvm.Cond.privateMethod ({ cls := "MemoryTransactions$Reader", name := "next", desc := "()V" } : Jvm.MethodName)) ∈ lw_tbl := lw_at lw_m3 17 rfl
theorem q575 : (Jvm.Cond.instanceMethod ({ cls := "MemoryTransactions$Reader", name := "next", desc := "()V" } : Jvm.MethodName)) ∈ lw_tbl := lw_at lw_m3 18 rfl
theorem q576 : (Jvm.Cond.code ({ cls := "MemoryTransactions$Reader", name := "next", desc := "()V" } : Jvm.MethodName) prog_12_method_5_code (2 : Nat) (Option.none : Option Jvm.ClassFile.FieldType)) ∈ lw_tbl := lw_at lw_m3 19 rfl
theorem q577 : (Jvm.Cond.methodLink "MemoryTransactions$Reader" (32 : Nat) ({ cls := "MemoryTransactions$Reader", name := "ch", desc := "(I)I" } : Jvm.MethodName)) ∈ lw_tbl := lw_at lw_m3 20 rfl
theorem q578 : (Jvm.Cond.privateMethod ({ cls := "MemoryTransactions$Reader", name := "ch", desc := "(I)I" } : Jvm.MethodName)) ∈ lw_tbl := lw_at lw_m3 21 rfl
theorem q579 : (Jvm.Cond.instanceMethod ({ cls := "MemoryTransactions$Reader", name := "ch", desc := "(I)I" } : Jvm.MethodName)) ∈ lw_tbl := lw_at lw_m3 22 rfl
theorem q580 : (Jvm.Cond.code ({ cls := "MemoryTransactions$Reader", name := "ch", desc := "(I)I" } : Jvm.MethodName) prog_12_method_2_code (2 : Nat) (Option.some Jvm.ClassFile.FieldType.int)) ∈ lw_tbl := lw_at lw_m3 23 rfl
theorem q581 : (Jvm.Cond.methodLink "MemoryTransactions$Reader" (43 : Nat) ({ cls := "MemoryTransactions$Reader", name := "isLetter", desc := "(I)Z" } : Jvm.MethodName)) ∈ lw_tbl := lw_at lw_m3 24 rfl
theorem q582 : (Jvm.Cond.static ({ cls := "MemoryTransactions$Reader", name := "isLetter", desc := "(I)Z" } : Jvm.MethodName)) ∈ lw_tbl := lw_at lw_m3 25 rfl
theorem q583 : (Jvm.Cond.code ({ cls := "MemoryTransactions$Reader", name := "isLetter", desc := "(I)Z" } : Jvm.MethodName) prog_12_method_3_code (1 : Nat) (Option.some Jvm.ClassFile.FieldType.boolean)) ∈ lw_tbl := lw_at lw_m3 26 rfl
theorem q584 : (Jvm.Cond.methodLink "MemoryTransactions$Reader" (50 : Nat) ({ cls := "MemoryTransactions$Reader", name := "isDigit", desc := "(I)Z" } : Jvm.MethodName)) ∈ lw_tbl := lw_at lw_m3 27 rfl
theorem q585 : (Jvm.Cond.static ({ cls := "MemoryTransactions$Reader", name := "isDigit", desc := "(I)Z" } : Jvm.MethodName)) ∈ lw_tbl := lw_at lw_m3 28 rfl
theorem q586 : (Jvm.Cond.code ({ cls := "MemoryTransactions$Reader", name := "isDigit", desc := "(I)Z" } : Jvm.MethodName) prog_12_method_4_code (1 : Nat) (Option.some Jvm.ClassFile.FieldType.boolean)) ∈ lw_tbl := lw_at lw_m3 29 rfl
theorem q587 : (Jvm.Cond.constantLong "MemoryTransactions$Reader" (57 : Nat) (10 : Int64)) ∈ lw_tbl := lw_at lw_m3 30 rfl
theorem q588 : (Jvm.Cond.constantLong "MemoryTransactions$Reader" (59 : Nat) (48 : Int64)) ∈ lw_tbl := lw_at lw_m3 31 rfl
theorem q589 : (Jvm.Cond.stringRef "MemoryTransactions$Reader" (61 : Nat) "=<#+-*/%(){};") ∈ lw_tbl := lw_at lw_m3 32 rfl
theorem q590 : (Jvm.Cond.methodLink "MemoryTransactions$Reader" (63 : Nat) ({ cls := "java/lang/String", name := "indexOf", desc := "(I)I" } : Jvm.MethodName)) ∈ lw_tbl := lw_at lw_m3 33 rfl
theorem q676 : (Jvm.Cond.methodLink "MemoryTransactions$Reader" (104 : Nat) ({ cls := "MemoryTransactions$Reader", name := "statements", desc := "(CI)LMemoryTransactions$Statement;" } : Jvm.MethodName)) ∈ lw_tbl := lw_at lw_m3 119 rfl
theorem q677 : (Jvm.Cond.privateMethod ({ cls := "MemoryTransactions$Reader", name := "statements", desc := "(CI)LMemoryTransactions$Statement;" } : Jvm.MethodName)) ∈ lw_tbl := lw_at lw_m3 120 rfl
theorem q678 : (Jvm.Cond.instanceMethod ({ cls := "MemoryTransactions$Reader", name := "statements", desc := "(CI)LMemoryTransactions$Statement;" } : Jvm.MethodName)) ∈ lw_tbl := lw_at lw_m3 121 rfl
theorem q679 : (Jvm.Cond.code ({ cls := "MemoryTransactions$Reader", name := "statements", desc := "(CI)LMemoryTransactions$Statement;" } : Jvm.MethodName) prog_12_method_11_code (6 : Nat) (Option.some (Jvm.ClassFile.FieldType.object "MemoryTransactions$Statement"))) ∈ lw_tbl := lw_at lw_m3 122 rfl
theorem q680 : (Jvm.Cond.methodLink "MemoryTransactions$Reader" (112 : Nat) ({ cls := "MemoryTransactions$Reader", name := "statement", desc := "(I)LMemoryTransactions$Statement;" } : Jvm.MethodName)) ∈ lw_tbl := lw_at lw_m3 123 rfl
theorem q681 : (Jvm.Cond.privateMethod ({ cls := "MemoryTransactions$Reader", name := "statement", desc := "(I)LMemoryTransactions$Statement;" } : Jvm.MethodName)) ∈ lw_tbl := lw_at lw_m3 124 rfl
theorem q682 : (Jvm.Cond.instanceMethod ({ cls := "MemoryTransactions$Reader", name := "statement", desc := "(I)LMemoryTransactions$Statement;" } : Jvm.MethodName)) ∈ lw_tbl := lw_at lw_m3 125 rfl
theorem q683 : (Jvm.Cond.code ({ cls := "MemoryTransactions$Reader", name := "statement", desc := "(I)LMemoryTransactions$Statement;" } : Jvm.MethodName) prog_12_method_14_code (3 : Nat) (Option.some (Jvm.ClassFile.FieldType.object "MemoryTransactions$Statement"))) ∈ lw_tbl := lw_at lw_m3 126 rfl
theorem q684 : (Jvm.Cond.methodLink "MemoryTransactions$Reader" (68 : Nat) ({ cls := "MemoryTransactions$Reader", name := "wrong", desc := "()LMemoryTransactions$Fault;" } : Jvm.MethodName)) ∈ lw_tbl := lw_at lw_m3 127 rfl
theorem q685 : (Jvm.Cond.privateMethod ({ cls := "MemoryTransactions$Reader", name := "wrong", desc := "()LMemoryTransactions$Fault;" } : Jvm.MethodName)) ∈ lw_tbl := lw_at lw_m3 128 rfl
theorem q686 : (Jvm.Cond.instanceMethod ({ cls := "MemoryTransactions$Reader", name := "wrong", desc := "()LMemoryTransactions$Fault;" } : Jvm.MethodName)) ∈ lw_tbl := lw_at lw_m3 129 rfl
theorem q687 : (Jvm.Cond.code ({ cls := "MemoryTransactions$Reader", name := "wrong", desc := "()LMemoryTransactions$Fault;" } : Jvm.MethodName) prog_12_method_6_code (1 : Nat) (Option.some (Jvm.ClassFile.FieldType.object "MemoryTransactions$Fault"))) ∈ lw_tbl := lw_at lw_m3 130 rfl
theorem q688 : (Jvm.Cond.classLink "MemoryTransactions$Reader" (117 : Nat) "MemoryTransactions$Statement") ∈ lw_tbl := lw_at lw_m3 131 rfl
theorem q690 : (Jvm.Cond.methodLinkNest "MemoryTransactions$Reader" (139 : Nat) ({ cls := "MemoryTransactions$Statement", name := "<init>", desc := "()V" } : Jvm.MethodName) "MemoryTransactions") ∈ lw_tbl := lw_at lw_m3 133 rfl
theorem q695 : (Jvm.Cond.fieldLinkNest "MemoryTransactions$Reader" (146 : Nat) "MemoryTransactions$Statement" "act" "LMemoryTransactions$Act;" "MemoryTransactions") ∈ lw_tbl := lw_at lw_m3 138 rfl
theorem q697 : (Jvm.Cond.fieldLinkNest "MemoryTransactions$Reader" (149 : Nat) "MemoryTransactions$Statement" "letter" "I" "MemoryTransactions") ∈ lw_tbl := lw_at lw_m3 140 rfl
theorem q699 : (Jvm.Cond.fieldLinkNest "MemoryTransactions$Reader" (150 : Nat) "MemoryTransactions$Statement" "exp" "LMemoryTransactions$Exp;" "MemoryTransactions") ∈ lw_tbl := lw_at lw_m3 142 rfl
theorem q701 : (Jvm.Cond.fieldLinkNest "MemoryTransactions$Reader" (168 : Nat) "MemoryTransactions$Statement" "first" "LMemoryTransactions$Statement;" "MemoryTransactions") ∈ lw_tbl := lw_at lw_m3 144 rfl
theorem q703 : (Jvm.Cond.fieldLinkNest "MemoryTransactions$Reader" (171 : Nat) "MemoryTransactions$Statement" "second" "LMemoryTransactions$Statement;" "MemoryTransactions") ∈ lw_tbl := lw_at lw_m3 146 rfl
theorem q705 : (Jvm.Cond.fieldLinkNest "MemoryTransactions$Reader" (116 : Nat) "MemoryTransactions$Statement" "next" "LMemoryTransactions$Statement;" "MemoryTransactions") ∈ lw_tbl := lw_at lw_m3 148 rfl
theorem q719 : (Jvm.Cond.fieldLink "MemoryTransactions$Reader" (140 : Nat) "MemoryTransactions$Act" "SET" "LMemoryTransactions$Act;") ∈ lw_tbl := lw_at lw_m3 162 rfl
theorem q721 : (Jvm.Cond.methodLink "MemoryTransactions$Reader" (129 : Nat) ({ cls := "MemoryTransactions$Reader", name := "want", desc := "(C)V" } : Jvm.MethodName)) ∈ lw_tbl := lw_at lw_m3 164 rfl
theorem q722 : (Jvm.Cond.privateMethod ({ cls := "MemoryTransactions$Reader", name := "want", desc := "(C)V" } : Jvm.MethodName)) ∈ lw_tbl := lw_at lw_m3 165 rfl
theorem q723 : (Jvm.Cond.instanceMethod ({ cls := "MemoryTransactions$Reader", name := "want", desc := "(C)V" } : Jvm.MethodName)) ∈ lw_tbl := lw_at lw_m3 166 rfl
theorem q724 : (Jvm.Cond.code ({ cls := "MemoryTransactions$Reader", name := "want", desc := "(C)V" } : Jvm.MethodName) prog_12_method_7_code (2 : Nat) (Option.none : Option Jvm.ClassFile.FieldType)) ∈ lw_tbl := lw_at lw_m3 167 rfl
theorem q725 : (Jvm.Cond.methodLink "MemoryTransactions$Reader" (133 : Nat) ({ cls := "MemoryTransactions$Reader", name := "exp", desc := "(I)LMemoryTransactions$Exp;" } : Jvm.MethodName)) ∈ lw_tbl := lw_at lw_m3 168 rfl
theorem q726 : (Jvm.Cond.privateMethod ({ cls := "MemoryTransactions$Reader", name := "exp", desc := "(I)LMemoryTransactions$Exp;" } : Jvm.MethodName)) ∈ lw_tbl := lw_at lw_m3 169 rfl
theorem q727 : (Jvm.Cond.instanceMethod ({ cls := "MemoryTransactions$Reader", name := "exp", desc := "(I)LMemoryTransactions$Exp;" } : Jvm.MethodName)) ∈ lw_tbl := lw_at lw_m3 170 rfl
theorem q728 : (Jvm.Cond.code ({ cls := "MemoryTransactions$Reader", name := "exp", desc := "(I)LMemoryTransactions$Exp;" } : Jvm.MethodName) prog_12_method_18_code (4 : Nat) (Option.some (Jvm.ClassFile.FieldType.object "MemoryTransactions$Exp"))) ∈ lw_tbl := lw_at lw_m3 171 rfl
theorem q729 : (Jvm.Cond.methodLink "MemoryTransactions$Reader" (228 : Nat) ({ cls := "MemoryTransactions$Reader", name := "sum", desc := "(I)LMemoryTransactions$Exp;" } : Jvm.MethodName)) ∈ lw_tbl := lw_at lw_m3 172 rfl
theorem q730 : (Jvm.Cond.privateMethod ({ cls := "MemoryTransactions$Reader", name := "sum", desc := "(I)LMemoryTransactions$Exp;" } : Jvm.MethodName)) ∈ lw_tbl := lw_at lw_m3 173 rfl
theorem q731 : (Jvm.Cond.instanceMethod ({ cls := "MemoryTransactions$Reader", name := "sum", desc := "(I)LMemoryTransactions$Exp;" } : Jvm.MethodName)) ∈ lw_tbl := lw_at lw_m3 174 rfl
theorem q732 : (Jvm.Cond.code ({ cls := "MemoryTransactions$Reader", name := "sum", desc := "(I)LMemoryTransactions$Exp;" } : Jvm.MethodName) prog_12_method_19_code (4 : Nat) (Option.some (Jvm.ClassFile.FieldType.object "MemoryTransactions$Exp"))) ∈ lw_tbl := lw_at lw_m3 175 rfl
theorem q733 : (Jvm.Cond.methodLink "MemoryTransactions$Reader" (235 : Nat) ({ cls := "MemoryTransactions$Reader", name := "product", desc := "(I)LMemoryTransactions$Exp;" } : Jvm.MethodName)) ∈ lw_tbl := lw_at lw_m3 176 rfl
theorem q734 : (Jvm.Cond.privateMethod ({ cls := "MemoryTransactions$Reader", name := "product", desc := "(I)LMemoryTransactions$Exp;" } : Jvm.MethodName)) ∈ lw_tbl := lw_at lw_m3 177 rfl
theorem q735 : (Jvm.Cond.instanceMethod ({ cls := "MemoryTransactions$Reader", name := "product", desc := "(I)LMemoryTransactions$Exp;" } : Jvm.MethodName)) ∈ lw_tbl := lw_at lw_m3 178 rfl
theorem q736 : (Jvm.Cond.code ({ cls := "MemoryTransactions$Reader", name := "product", desc := "(I)LMemoryTransactions$Exp;" } : Jvm.MethodName) prog_12_method_20_code (4 : Nat) (Option.some (Jvm.ClassFile.FieldType.object "MemoryTransactions$Exp"))) ∈ lw_tbl := lw_at lw_m3 179 rfl
theorem q737 : (Jvm.Cond.methodLink "MemoryTransactions$Reader" (238 : Nat) ({ cls := "MemoryTransactions$Reader", name := "unary", desc := "(I)LMemoryTransactions$Exp;" } : Jvm.MethodName)) ∈ lw_tbl := lw_at lw_m3 180 rfl
theorem q738 : (Jvm.Cond.privateMethod ({ cls := "MemoryTransactions$Reader", name := "unary", desc := "(I)LMemoryTransactions$Exp;" } : Jvm.MethodName)) ∈ lw_tbl := lw_at lw_m3 181 rfl
theorem q739 : (Jvm.Cond.instanceMethod ({ cls := "MemoryTransactions$Reader", name := "unary", desc := "(I)LMemoryTransactions$Exp;" } : Jvm.MethodName)) ∈ lw_tbl := lw_at lw_m3 182 rfl
theorem q740 : (Jvm.Cond.code ({ cls := "MemoryTransactions$Reader", name := "unary", desc := "(I)LMemoryTransactions$Exp;" } : Jvm.MethodName) prog_12_method_21_code (4 : Nat) (Option.some (Jvm.ClassFile.FieldType.object "MemoryTransactions$Exp"))) ∈ lw_tbl := lw_at lw_m3 183 rfl
theorem q741 : (Jvm.Cond.classLink "MemoryTransactions$Reader" (216 : Nat) "MemoryTransactions$Exp") ∈ lw_tbl := lw_at lw_m3 184 rfl
theorem q743 : (Jvm.Cond.methodLinkNest "MemoryTransactions$Reader" (218 : Nat) ({ cls := "MemoryTransactions$Exp", name := "<init>", desc := "()V" } : Jvm.MethodName) "MemoryTransactions") ∈ lw_tbl := lw_at lw_m3 186 rfl
theorem q748 : (Jvm.Cond.fieldLinkNest "MemoryTransactions$Reader" (219 : Nat) "MemoryTransactions$Exp" "op" "C" "MemoryTransactions") ∈ lw_tbl := lw_at lw_m3 191 rfl
theorem q750 : (Jvm.Cond.fieldLinkNest "MemoryTransactions$Reader" (244 : Nat) "MemoryTransactions$Exp" "number" "J" "MemoryTransactions") ∈ lw_tbl := lw_at lw_m3 193 rfl
theorem q752 : (Jvm.Cond.fieldLinkNest "MemoryTransactions$Reader" (245 : Nat) "MemoryTransactions$Exp" "letter" "I" "MemoryTransactions") ∈ lw_tbl := lw_at lw_m3 195 rfl
theorem q754 : (Jvm.Cond.fieldLinkNest "MemoryTransactions$Reader" (222 : Nat) "MemoryTransactions$Exp" "left" "LMemoryTransactions$Exp;" "MemoryTransactions") ∈ lw_tbl := lw_at lw_m3 197 rfl
theorem q756 : (Jvm.Cond.fieldLinkNest "MemoryTransactions$Reader" (225 : Nat) "MemoryTransactions$Exp" "right" "LMemoryTransactions$Exp;" "MemoryTransactions") ∈ lw_tbl := lw_at lw_m3 199 rfl
theorem q768 : (Jvm.Cond.methodLink "MemoryTransactions$Reader" (231 : Nat) ({ cls := "MemoryTransactions$Reader", name := "operation", desc := "(CLMemoryTransactions$Exp;LMemoryTransactions$Exp;)LMemoryTransactions$Exp;" } : Jvm.MethodName)) ∈ lw_tbl := lw_at lw_m3 211 rfl
theorem q769 : (Jvm.Cond.privateMethod ({ cls := "MemoryTransactions$Reader", name := "operation", desc := "(CLMemoryTransactions$Exp;LMemoryTransactions$Exp;)LMemoryTransactions$Exp;" } : Jvm.MethodName)) ∈ lw_tbl := lw_at lw_m3 212 rfl
theorem q770 : (Jvm.Cond.instanceMethod ({ cls := "MemoryTransactions$Reader", name := "operation", desc := "(CLMemoryTransactions$Exp;LMemoryTransactions$Exp;)LMemoryTransactions$Exp;" } : Jvm.MethodName)) ∈ lw_tbl := lw_at lw_m3 213 rfl
theorem q771 : (Jvm.Cond.code ({ cls := "MemoryTransactions$Reader", name := "operation", desc := "(CLMemoryTransactions$Exp;LMemoryTransactions$Exp;)LMemoryTransactions$Exp;" } : Jvm.MethodName) prog_12_method_17_code (5 : Nat) (Option.some (Jvm.ClassFile.FieldType.object "MemoryTransactions$Exp"))) ∈ lw_tbl := lw_at lw_m3 214 rfl
theorem q772 : (Jvm.Cond.stringRef "MemoryTransactions$Reader" (153 : Nat) "if") ∈ lw_tbl := lw_at lw_m3 215 rfl
theorem q773 : (Jvm.Cond.methodLink "MemoryTransactions$Reader" (155 : Nat) ({ cls := "MemoryTransactions$Reader", name := "may", desc := "(Ljava/lang/String;)Z" } : Jvm.MethodName)) ∈ lw_tbl := lw_at lw_m3 216 rfl
theorem q774 : (Jvm.Cond.privateMethod ({ cls := "MemoryTransactions$Reader", name := "may", desc := "(Ljava/lang/String;)Z" } : Jvm.MethodName)) ∈ lw_tbl := lw_at lw_m3 217 rfl
theorem q775 : (Jvm.Cond.instanceMethod ({ cls := "MemoryTransactions$Reader", name := "may", desc := "(Ljava/lang/String;)Z" } : Jvm.MethodName)) ∈ lw_tbl := lw_at lw_m3 218 rfl
theorem q776 : (Jvm.Cond.code ({ cls := "MemoryTransactions$Reader", name := "may", desc := "(Ljava/lang/String;)Z" } : Jvm.MethodName) prog_12_method_9_code (3 : Nat) (Option.some Jvm.ClassFile.FieldType.boolean)) ∈ lw_tbl := lw_at lw_m3 219 rfl
theorem q777 : (Jvm.Cond.methodLink "MemoryTransactions$Reader" (83 : Nat) ({ cls := "MemoryTransactions$Reader", name := "isWord", desc := "(Ljava/lang/String;)Z" } : Jvm.MethodName)) ∈ lw_tbl := lw_at lw_m3 220 rfl
theorem q778 : (Jvm.Cond.privateMethod ({ cls := "MemoryTransactions$Reader", name := "isWord", desc := "(Ljava/lang/String;)Z" } : Jvm.MethodName)) ∈ lw_tbl := lw_at lw_m3 221 rfl
theorem q779 : (Jvm.Cond.instanceMethod ({ cls := "MemoryTransactions$Reader", name := "isWord", desc := "(Ljava/lang/String;)Z" } : Jvm.MethodName)) ∈ lw_tbl := lw_at lw_m3 222 rfl
theorem q780 : (Jvm.Cond.code ({ cls := "MemoryTransactions$Reader", name := "isWord", desc := "(Ljava/lang/String;)Z" } : Jvm.MethodName) prog_12_method_8_code (4 : Nat) (Option.some Jvm.ClassFile.FieldType.boolean)) ∈ lw_tbl := lw_at lw_m3 223 rfl
theorem q781 : (Jvm.Cond.methodLink "MemoryTransactions$Reader" (75 : Nat) ({ cls := "java/lang/String", name := "length", desc := "()I" } : Jvm.MethodName)) ∈ lw_tbl := lw_at lw_m3 224 rfl
theorem q782 : (Jvm.Cond.methodLink "MemoryTransactions$Reader" (79 : Nat) ({ cls := "java/lang/String", name := "charAt", desc := "(I)C" } : Jvm.MethodName)) ∈ lw_tbl := lw_at lw_m3 225 rfl
theorem q802 : (Jvm.Cond.fieldLink "MemoryTransactions$Reader" (158 : Nat) "MemoryTransactions$Act" "IF" "LMemoryTransactions$Act;") ∈ lw_tbl := lw_at lw_m4 5 rfl
theorem q804 : (Jvm.Cond.methodLink "MemoryTransactions$Reader" (161 : Nat) ({ cls := "MemoryTransactions$Reader", name := "inParentheses", desc := "()LMemoryTransactions$Exp;" } : Jvm.MethodName)) ∈ lw_tbl := lw_at lw_m4 7 rfl
theorem q805 : (Jvm.Cond.privateMethod ({ cls := "MemoryTransactions$Reader", name := "inParentheses", desc := "()LMemoryTransactions$Exp;" } : Jvm.MethodName)) ∈ lw_tbl := lw_at lw_m4 8 rfl
theorem q806 : (Jvm.Cond.instanceMethod ({ cls := "MemoryTransactions$Reader", name := "inParentheses", desc := "()LMemoryTransactions$Exp;" } : Jvm.MethodName)) ∈ lw_tbl := lw_at lw_m4 9 rfl
theorem q807 : (Jvm.Cond.code ({ cls := "MemoryTransactions$Reader", name := "inParentheses", desc := "()LMemoryTransactions$Exp;" } : Jvm.MethodName) prog_12_method_13_code (2 : Nat) (Option.some (Jvm.ClassFile.FieldType.object "MemoryTransactions$Exp"))) ∈ lw_tbl := lw_at lw_m4 10 rfl
theorem q808 : (Jvm.Cond.methodLink "MemoryTransactions$Reader" (165 : Nat) ({ cls := "MemoryTransactions$Reader", name := "body", desc := "(I)LMemoryTransactions$Statement;" } : Jvm.MethodName)) ∈ lw_tbl := lw_at lw_m4 11 rfl
theorem q809 : (Jvm.Cond.privateMethod ({ cls := "MemoryTransactions$Reader", name := "body", desc := "(I)LMemoryTransactions$Statement;" } : Jvm.MethodName)) ∈ lw_tbl := lw_at lw_m4 12 rfl
theorem q810 : (Jvm.Cond.instanceMethod ({ cls := "MemoryTransactions$Reader", name := "body", desc := "(I)LMemoryTransactions$Statement;" } : Jvm.MethodName)) ∈ lw_tbl := lw_at lw_m4 13 rfl
theorem q811 : (Jvm.Cond.code ({ cls := "MemoryTransactions$Reader", name := "body", desc := "(I)LMemoryTransactions$Statement;" } : Jvm.MethodName) prog_12_method_12_code (3 : Nat) (Option.some (Jvm.ClassFile.FieldType.object "MemoryTransactions$Statement"))) ∈ lw_tbl := lw_at lw_m4 14 rfl
theorem q812 : (Jvm.Cond.methodLink "MemoryTransactions$Reader" (123 : Nat) ({ cls := "java/lang/Math", name := "max", desc := "(II)I" } : Jvm.MethodName)) ∈ lw_tbl := lw_at lw_m4 15 rfl
theorem q813 : (Jvm.Cond.stringRef "MemoryTransactions$Reader" (169 : Nat) "else") ∈ lw_tbl := lw_at lw_m4 16 rfl
theorem q814 : (Jvm.Cond.stringRef "MemoryTransactions$Reader" (174 : Nat) "while") ∈ lw_tbl := lw_at lw_m4 17 rfl
theorem q815 : (Jvm.Cond.fieldLink "MemoryTransactions$Reader" (176 : Nat) "MemoryTransactions$Act" "WHILE" "LMemoryTransactions$Act;") ∈ lw_tbl := lw_at lw_m4 18 rfl
theorem q817 : (Jvm.Cond.stringRef "MemoryTransactions$Reader" (179 : Nat) "either") ∈ lw_tbl := lw_at lw_m4 20 rfl
theorem q818 : (Jvm.Cond.fieldLink "MemoryTransactions$Reader" (181 : Nat) "MemoryTransactions$Act" "EITHER" "LMemoryTransactions$Act;") ∈ lw_tbl := lw_at lw_m4 21 rfl
theorem q820 : (Jvm.Cond.stringRef "MemoryTransactions$Reader" (184 : Nat) "or") ∈ lw_tbl := lw_at lw_m4 23 rfl
theorem q821 : (Jvm.Cond.methodLink "MemoryTransactions$Reader" (186 : Nat) ({ cls := "MemoryTransactions$Reader", name := "wantWord", desc := "(Ljava/lang/String;)V" } : Jvm.MethodName)) ∈ lw_tbl := lw_at lw_m4 24 rfl
theorem q822 : (Jvm.Cond.privateMethod ({ cls := "MemoryTransactions$Reader", name := "wantWord", desc := "(Ljava/lang/String;)V" } : Jvm.MethodName)) ∈ lw_tbl := lw_at lw_m4 25 rfl
theorem q823 : (Jvm.Cond.instanceMethod ({ cls := "MemoryTransactions$Reader", name := "wantWord", desc := "(Ljava/lang/String;)V" } : Jvm.MethodName)) ∈ lw_tbl := lw_at lw_m4 26 rfl
theorem q824 : (Jvm.Cond.code ({ cls := "MemoryTransactions$Reader", name := "wantWord", desc := "(Ljava/lang/String;)V" } : Jvm.MethodName) prog_12_method_15_code (2 : Nat) (Option.none : Option Jvm.ClassFile.FieldType)) ∈ lw_tbl := lw_at lw_m4 27 rfl
theorem q825 : (Jvm.Cond.stringRef "MemoryTransactions$Reader" (190 : Nat) "try") ∈ lw_tbl := lw_at lw_m4 28 rfl
theorem q826 : (Jvm.Cond.fieldLink "MemoryTransactions$Reader" (192 : Nat) "MemoryTransactions$Act" "TRY" "LMemoryTransactions$Act;") ∈ lw_tbl := lw_at lw_m4 29 rfl
theorem q828 : (Jvm.Cond.stringRef "MemoryTransactions$Reader" (195 : Nat) "catch") ∈ lw_tbl := lw_at lw_m4 31 rfl
theorem q829 : (Jvm.Cond.methodLink "MemoryTransactions$Reader" (197 : Nat) ({ cls := "MemoryTransactions$Reader", name := "plain", desc := "(LMemoryTransactions$Statement;)V" } : Jvm.MethodName)) ∈ lw_tbl := lw_at lw_m4 32 rfl
theorem q830 : (Jvm.Cond.privateMethod ({ cls := "MemoryTransactions$Reader", name := "plain", desc := "(LMemoryTransactions$Statement;)V" } : Jvm.MethodName)) ∈ lw_tbl := lw_at lw_m4 33 rfl
theorem q831 : (Jvm.Cond.instanceMethod ({ cls := "MemoryTransactions$Reader", name := "plain", desc := "(LMemoryTransactions$Statement;)V" } : Jvm.MethodName)) ∈ lw_tbl := lw_at lw_m4 34 rfl
theorem q832 : (Jvm.Cond.code ({ cls := "MemoryTransactions$Reader", name := "plain", desc := "(LMemoryTransactions$Statement;)V" } : Jvm.MethodName) prog_12_method_16_code (2 : Nat) (Option.none : Option Jvm.ClassFile.FieldType)) ∈ lw_tbl := lw_at lw_m4 35 rfl
theorem q833 : (Jvm.Cond.stringRef "MemoryTransactions$Reader" (201 : Nat) "retry") ∈ lw_tbl := lw_at lw_m4 36 rfl
theorem q834 : (Jvm.Cond.fieldLink "MemoryTransactions$Reader" (203 : Nat) "MemoryTransactions$Act" "RETRY" "LMemoryTransactions$Act;") ∈ lw_tbl := lw_at lw_m4 37 rfl
theorem q836 : (Jvm.Cond.stringRef "MemoryTransactions$Reader" (206 : Nat) "throw") ∈ lw_tbl := lw_at lw_m4 39 rfl
theorem q837 : (Jvm.Cond.fieldLink "MemoryTransactions$Reader" (208 : Nat) "MemoryTransactions$Act" "THROW" "LMemoryTransactions$Act;") ∈ lw_tbl := lw_at lw_m4 40 rfl
theorem q839 : (Jvm.Cond.stringRef "MemoryTransactions$Reader" (211 : Nat) "always") ∈ lw_tbl := lw_at lw_m4 42 rfl
theorem q840 : (Jvm.Cond.fieldLink "MemoryTransactions$Reader" (213 : Nat) "MemoryTransactions$Act" "ALWAYS" "LMemoryTransactions$Act;") ∈ lw_tbl := lw_at lw_m4 43 rfl
theorem q83 : (Jvm.Cond.initialized "MemoryTransactions$Fault") ∈ lw_tbl := lw_at lw_m1 6 rfl
theorem q126 : (Jvm.Cond.instantiable "MemoryTransactions$Fault" (6 : Nat)) ∈ lw_tbl := lw_at lw_m1 49 rfl
theorem q127 : (Jvm.Cond.castable "MemoryTransactions$Fault" "MemoryTransactions$Fault") ∈ lw_tbl := lw_at lw_m1 50 rfl
theorem q134 : (Jvm.Cond.selects "MemoryTransactions$Fault" ({ cls := "java/lang/Throwable", name := "fillInStackTrace", desc := "(I)Ljava/lang/Throwable;" } : Jvm.MethodName) ({ cls := "java/lang/Throwable", name := "fillInStackTrace", desc := "(I)Ljava/lang/Throwable;" } : Jvm.MethodName)) ∈ lw_tbl := lw_at lw_m1 57 rfl
theorem q135 : (Jvm.Cond.selects "MemoryTransactions$Fault" ({ cls := "java/lang/Throwable", name := "fillInStackTrace", desc := "()Ljava/lang/Throwable;" } : Jvm.MethodName) ({ cls := "java/lang/Throwable", name := "fillInStackTrace", desc := "()Ljava/lang/Throwable;" } : Jvm.MethodName)) ∈ lw_tbl := lw_at lw_m1 58 rfl
theorem q136 : (Jvm.Cond.lays "MemoryTransactions$Fault" "java/lang/Throwable" "cause" "Ljava/lang/Throwable;") ∈ lw_tbl := lw_at lw_m1 59 rfl
theorem q138 : (Jvm.Cond.lays "MemoryTransactions$Fault" "java/lang/Throwable" "stackTrace" "[Ljava/lang/StackTraceElement;") ∈ lw_tbl := lw_at lw_m1 61 rfl
theorem q140 : (Jvm.Cond.lays "MemoryTransactions$Fault" "java/lang/Throwable" "suppressedExceptions" "Ljava/util/List;") ∈ lw_tbl := lw_at lw_m1 63 rfl
theorem q142 : (Jvm.Cond.lays "MemoryTransactions$Fault" "java/lang/Throwable" "detailMessage" "Ljava/lang/String;") ∈ lw_tbl := lw_at lw_m1 65 rfl
theorem q144 : (Jvm.Cond.lays "MemoryTransactions$Fault" "java/lang/Throwable" "backtrace" "Ljava/lang/Object;") ∈ lw_tbl := lw_at lw_m1 67 rfl
theorem q167 : (Jvm.Cond.instanceMethod ({ cls := "MemoryTransactions$Fault", name := "<init>", desc := "()V" } : Jvm.MethodName)) ∈ lw_tbl := lw_at lw_m1 90 rfl
theorem q168 : (Jvm.Cond.code ({ cls := "MemoryTransactions$Fault", name := "<init>", desc := "()V" } : Jvm.MethodName) prog_6_method_1_code (1 : Nat) (Option.none : Option Jvm.ClassFile.FieldType)) ∈ lw_tbl := lw_at lw_m1 91 rfl
theorem q169 : (Jvm.Cond.stringRef "MemoryTransactions$Fault" (1 : Nat) "cannot stand there") ∈ lw_tbl := lw_at lw_m1 92 rfl
theorem q170 : (Jvm.Cond.methodLink "MemoryTransactions$Fault" (3 : Nat) ({ cls := "java/lang/RuntimeException", name := "<init>", desc := "(Ljava/lang/String;Ljava/lang/Throwable;ZZ)V" } : Jvm.MethodName)) ∈ lw_tbl := lw_at lw_m1 93 rfl
theorem q188 : (Jvm.Cond.lays "MemoryTransactions$Fault" "java/lang/Throwable" "depth" "I") ∈ lw_tbl := lw_at lw_m1 111 rfl
theorem q191 : (Jvm.Cond.superclass "MemoryTransactions$Fault" "java/lang/RuntimeException") ∈ lw_tbl := lw_at lw_m1 114 rfl
theorem q84 : (Jvm.Cond.initialized "MemoryTransactions$Store") ∈ lw_tbl := lw_at lw_m1 7 rfl
theorem q231 : (Jvm.Cond.instantiable "MemoryTransactions$Store" (5 : Nat)) ∈ lw_tbl := lw_at lw_m1 154 rfl
theorem q233 : (Jvm.Cond.instanceMethod ({ cls := "MemoryTransactions$Store", name := "<init>", desc := "()V" } : Jvm.MethodName)) ∈ lw_tbl := lw_at lw_m1 156 rfl
theorem q234 : (Jvm.Cond.code ({ cls := "MemoryTransactions$Store", name := "<init>", desc := "()V" } : Jvm.MethodName) prog_19_method_1_code (1 : Nat) (Option.none : Option Jvm.ClassFile.FieldType)) ∈ lw_tbl := lw_at lw_m1 157 rfl
theorem q235 : (Jvm.Cond.methodLink "MemoryTransactions$Store" (3 : Nat) ({ cls := "java/lang/Object", name := "<init>", desc := "()V" } : Jvm.MethodName)) ∈ lw_tbl := lw_at lw_m1 158 rfl
theorem q236 : (Jvm.Cond.classLink "MemoryTransactions$Store" (19 : Nat) "MemoryTransactions$Exp") ∈ lw_tbl := lw_at lw_m1 159 rfl
theorem q238 : (Jvm.Cond.classLink "MemoryTransactions$Store" (25 : Nat) "MemoryTransactions$Worker") ∈ lw_tbl := lw_at lw_m1 161 rfl
theorem q240 : (Jvm.Cond.methodLinkNest "MemoryTransactions$Store" (27 : Nat) ({ cls := "MemoryTransactions$Worker", name := "<init>", desc := "()V" } : Jvm.MethodName) "MemoryTransactions") ∈ lw_tbl := lw_at lw_m1 163 rfl
theorem q270 : (Jvm.Cond.fieldLink "MemoryTransactions$Store" (9 : Nat) "MemoryTransactions$Store" "values" "[J") ∈ lw_tbl := lw_at lw_m1 193 rfl
theorem q273 : (Jvm.Cond.fieldLink "MemoryTransactions$Store" (15 : Nat) "MemoryTransactions$Store" "versions" "[I") ∈ lw_tbl := lw_at lw_m1 196 rfl
theorem q276 : (Jvm.Cond.fieldLink "MemoryTransactions$Store" (21 : Nat) "MemoryTransactions$Store" "rules" "[LMemoryTransactions$Exp;") ∈ lw_tbl := lw_at lw_m1 199 rfl
theorem q278 : (Jvm.Cond.fieldLink "MemoryTransactions$Store" (41 : Nat) "MemoryTransactions$Store" "ruleCount" "I") ∈ lw_tbl := lw_at lw_m1 201 rfl
theorem q281 : (Jvm.Cond.fieldLink "MemoryTransactions$Store" (28 : Nat) "MemoryTransactions$Store" "worker" "LMemoryTransactions$Worker;") ∈ lw_tbl := lw_at lw_m1 204 rfl
theorem q283 : (Jvm.Cond.laysFinal "MemoryTransactions$Store" "MemoryTransactions$Store" "values" "[J") ∈ lw_tbl := lw_at lw_m1 206 rfl
theorem q284 : (Jvm.Cond.soleField "MemoryTransactions$Store" "values") ∈ lw_tbl := lw_at lw_m1 207 rfl
theorem q285 : (Jvm.Cond.laysFinal "MemoryTransactions$Store" "MemoryTransactions$Store" "versions" "[I") ∈ lw_tbl := lw_at lw_m1 208 rfl
theorem q286 : (Jvm.Cond.soleField "MemoryTransactions$Store" "versions") ∈ lw_tbl := lw_at lw_m1 209 rfl
theorem q287 : (Jvm.Cond.laysFinal "MemoryTransactions$Store" "MemoryTransactions$Store" "rules" "[LMemoryTransactions$Exp;") ∈ lw_tbl := lw_at lw_m1 210 rfl
theorem q288 : (Jvm.Cond.soleField "MemoryTransactions$Store" "rules") ∈ lw_tbl := lw_at lw_m1 211 rfl
theorem q289 : (Jvm.Cond.lays "MemoryTransactions$Store" "MemoryTransactions$Store" "ruleCount" "I") ∈ lw_tbl := lw_at lw_m1 212 rfl
theorem q290 : (Jvm.Cond.soleField "MemoryTransactions$Store" "ruleCount") ∈ lw_tbl := lw_at lw_m1 213 rfl
theorem q291 : (Jvm.Cond.laysFinal "MemoryTransactions$Store" "MemoryTransactions$Store" "worker" "LMemoryTransactions$Worker;") ∈ lw_tbl := lw_at lw_m1 214 rfl
theorem q292 : (Jvm.Cond.soleField "MemoryTransactions$Store" "worker") ∈ lw_tbl := lw_at lw_m1 215 rfl
theorem q293 : (Jvm.Cond.superclass "MemoryTransactions$Store" "java/lang/Object") ∈ lw_tbl := lw_at lw_m1 216 rfl
theorem q862 : (Jvm.Cond.instanceMethod ({ cls := "MemoryTransactions$Store", name := "hold", desc := "(LMemoryTransactions$Letters;)Z" } : Jvm.MethodName)) ∈ lw_tbl := lw_at lw_m4 65 rfl
theorem q863 : (Jvm.Cond.selects "MemoryTransactions$Store" ({ cls := "MemoryTransactions$Store", name := "hold", desc := "(LMemoryTransactions$Letters;)Z" } : Jvm.MethodName) ({ cls := "MemoryTransactions$Store", name := "hold", desc := "(LMemoryTransactions$Letters;)Z" } : Jvm.MethodName)) ∈ lw_tbl := lw_at lw_m4 66 rfl
theorem q864 : (Jvm.Cond.code ({ cls := "MemoryTransactions$Store", name := "hold", desc := "(LMemoryTransactions$Letters;)Z" } : Jvm.MethodName) prog_19_method_5_code (3 : Nat) (Option.some Jvm.ClassFile.FieldType.boolean)) ∈ lw_tbl := lw_at lw_m4 67 rfl
theorem q865 : (Jvm.Cond.methodLink "MemoryTransactions$Store" (45 : Nat) ({ cls := "MemoryTransactions$Store", name := "holds", desc := "(LMemoryTransactions$Exp;LMemoryTransactions$Letters;)Z" } : Jvm.MethodName)) ∈ lw_tbl := lw_at lw_m4 68 rfl
theorem q866 : (Jvm.Cond.instanceMethod ({ cls := "MemoryTransactions$Store", name := "holds", desc := "(LMemoryTransactions$Exp;LMemoryTransactions$Letters;)Z" } : Jvm.MethodName)) ∈ lw_tbl := lw_at lw_m4 69 rfl
theorem q867 : (Jvm.Cond.selects "MemoryTransactions$Store" ({ cls := "MemoryTransactions$Store", name := "holds", desc := "(LMemoryTransactions$Exp;LMemoryTransactions$Letters;)Z" } : Jvm.MethodName) ({ cls := "MemoryTransactions$Store", name := "holds", desc := "(LMemoryTransactions$Exp;LMemoryTransactions$Letters;)Z" } : Jvm.MethodName)) ∈ lw_tbl := lw_at lw_m4 70 rfl
theorem q868 : (Jvm.Cond.codeWith ({ cls := "MemoryTransactions$Store", name := "holds", desc := "(LMemoryTransactions$Exp;LMemoryTransactions$Letters;)Z" } : Jvm.MethodName) prog_19_method_6_code (4 : Nat) (Option.some Jvm.ClassFile.FieldType.boolean) [((0 : Nat), (19 : Nat), (20 : Nat), (53 : Nat))]) ∈ lw_tbl := lw_at lw_m4 71 rfl
theorem q869 : (Jvm.Cond.classLink "MemoryTransactions$Store" (53 : Nat) "MemoryTransactions$Thrown") ∈ lw_tbl := lw_at lw_m4 72 rfl
theorem q870 : (Jvm.Cond.methodLink "MemoryTransactions$Store" (49 : Nat) ({ cls := "MemoryTransactions$Worker", name := "work", desc := "(LMemoryTransactions$Exp;LMemoryTransactions$Letters;)J" } : Jvm.MethodName)) ∈ lw_tbl := lw_at lw_m4 73 rfl
theorem q898 : (Jvm.Cond.castable "MemoryTransactions$Store" "MemoryTransactions$Letters") ∈ lw_tbl := lw_at lw_m4 101 rfl
theorem q899 : (Jvm.Cond.selects "MemoryTransactions$Store" ({ cls := "MemoryTransactions$Letters", name := "of", desc := "(I)J" } : Jvm.MethodName) ({ cls := "MemoryTransactions$Store", name := "of", desc := "(I)J" } : Jvm.MethodName)) ∈ lw_tbl := lw_at lw_m4 102 rfl
theorem q900 : (Jvm.Cond.unhidden "MemoryTransactions$Store" "of" "(I)J") ∈ lw_tbl := lw_at lw_m4 103 rfl
theorem q901 : (Jvm.Cond.instanceMethod ({ cls := "MemoryTransactions$Store", name := "of", desc := "(I)J" } : Jvm.MethodName)) ∈ lw_tbl := lw_at lw_m4 104 rfl
theorem q902 : (Jvm.Cond.publicMethod ({ cls := "MemoryTransactions$Store", name := "of", desc := "(I)J" } : Jvm.MethodName)) ∈ lw_tbl := lw_at lw_m4 105 rfl
theorem q903 : (Jvm.Cond.code ({ cls := "MemoryTransactions$Store", name := "of", desc := "(I)J" } : Jvm.MethodName) prog_19_method_3_code (2 : Nat) (Option.some Jvm.ClassFile.FieldType.long)) ∈ lw_tbl := lw_at lw_m4 106 rfl
theorem q1061 : (Jvm.Cond.instanceMethod ({ cls := "MemoryTransactions$Store", name := "write", desc := "(IJ)V" } : Jvm.MethodName)) ∈ lw_tbl := lw_at lw_m5 24 rfl
theorem q1062 : (Jvm.Cond.selects "MemoryTransactions$Store" ({ cls := "MemoryTransactions$Store", name := "write", desc := "(IJ)V" } : Jvm.MethodName) ({ cls := "MemoryTransactions$Store", name := "write", desc := "(IJ)V" } : Jvm.MethodName)) ∈ lw_tbl := lw_at lw_m5 25 rfl
theorem q1063 : (Jvm.Cond.code ({ cls := "MemoryTransactions$Store", name := "write", desc := "(IJ)V" } : Jvm.MethodName) prog_19_method_4_code (4 : Nat) (Option.none : Option Jvm.ClassFile.FieldType)) ∈ lw_tbl := lw_at lw_m5 26 rfl
theorem q1117 : (Jvm.Cond.instanceMethod ({ cls := "MemoryTransactions$Store", name := "clear", desc := "()V" } : Jvm.MethodName)) ∈ lw_tbl := lw_at lw_m5 80 rfl
theorem q1118 : (Jvm.Cond.selects "MemoryTransactions$Store" ({ cls := "MemoryTransactions$Store", name := "clear", desc := "()V" } : Jvm.MethodName) ({ cls := "MemoryTransactions$Store", name := "clear", desc := "()V" } : Jvm.MethodName)) ∈ lw_tbl := lw_at lw_m5 81 rfl
theorem q1119 : (Jvm.Cond.code ({ cls := "MemoryTransactions$Store", name := "clear", desc := "()V" } : Jvm.MethodName) prog_19_method_2_code (1 : Nat) (Option.none : Option Jvm.ClassFile.FieldType)) ∈ lw_tbl := lw_at lw_m5 82 rfl
theorem q1120 : (Jvm.Cond.methodLink "MemoryTransactions$Store" (32 : Nat) ({ cls := "java/util/Arrays", name := "fill", desc := "([JJ)V" } : Jvm.MethodName)) ∈ lw_tbl := lw_at lw_m5 83 rfl
theorem q1121 : (Jvm.Cond.methodLink "MemoryTransactions$Store" (38 : Nat) ({ cls := "java/util/Arrays", name := "fill", desc := "([II)V" } : Jvm.MethodName)) ∈ lw_tbl := lw_at lw_m5 84 rfl
theorem q1131 : (Jvm.Cond.instanceMethod ({ cls := "MemoryTransactions$Store", name := "isSame", desc := "(LMemoryTransactions$Store;)Z" } : Jvm.MethodName)) ∈ lw_tbl := lw_at lw_m5 94 rfl
theorem q1132 : (Jvm.Cond.selects "MemoryTransactions$Store" ({ cls := "MemoryTransactions$Store", name := "isSame", desc := "(LMemoryTransactions$Store;)Z" } : Jvm.MethodName) ({ cls := "MemoryTransactions$Store", name := "isSame", desc := "(LMemoryTransactions$Store;)Z" } : Jvm.MethodName)) ∈ lw_tbl := lw_at lw_m5 95 rfl
theorem q1133 : (Jvm.Cond.code ({ cls := "MemoryTransactions$Store", name := "isSame", desc := "(LMemoryTransactions$Store;)Z" } : Jvm.MethodName) prog_19_method_7_code (4 : Nat) (Option.some Jvm.ClassFile.FieldType.boolean)) ∈ lw_tbl := lw_at lw_m5 96 rfl
theorem q85 : (Jvm.Cond.initialized "MemoryTransactions$Worker") ∈ lw_tbl := lw_at lw_m1 8 rfl
theorem q239 : (Jvm.Cond.instantiable "MemoryTransactions$Worker" (1 : Nat)) ∈ lw_tbl := lw_at lw_m1 162 rfl
theorem q241 : (Jvm.Cond.instanceMethod ({ cls := "MemoryTransactions$Worker", name := "<init>", desc := "()V" } : Jvm.MethodName)) ∈ lw_tbl := lw_at lw_m1 164 rfl
theorem q242 : (Jvm.Cond.code ({ cls := "MemoryTransactions$Worker", name := "<init>", desc := "()V" } : Jvm.MethodName) prog_21_method_1_code (1 : Nat) (Option.none : Option Jvm.ClassFile.FieldType)) ∈ lw_tbl := lw_at lw_m1 165 rfl
theorem q243 : (Jvm.Cond.methodLink "MemoryTransactions$Worker" (3 : Nat) ({ cls := "java/lang/Object", name := "<init>", desc := "()V" } : Jvm.MethodName)) ∈ lw_tbl := lw_at lw_m1 166 rfl
theorem q244 : (Jvm.Cond.classLink "MemoryTransactions$Worker" (9 : Nat) "MemoryTransactions$Thrown") ∈ lw_tbl := lw_at lw_m1 167 rfl
theorem q253 : (Jvm.Cond.methodLink "MemoryTransactions$Worker" (11 : Nat) ({ cls := "MemoryTransactions$Thrown", name := "<init>", desc := "()V" } : Jvm.MethodName)) ∈ lw_tbl := lw_at lw_m1 176 rfl
theorem q258 : (Jvm.Cond.fieldLinkNest "MemoryTransactions$Worker" (18 : Nat) "MemoryTransactions$Thrown" "value" "J" "MemoryTransactions") ∈ lw_tbl := lw_at lw_m1 181 rfl
theorem q266 : (Jvm.Cond.fieldLink "MemoryTransactions$Worker" (12 : Nat) "MemoryTransactions$Worker" "thrown" "LMemoryTransactions$Thrown;") ∈ lw_tbl := lw_at lw_m1 189 rfl
theorem q267 : (Jvm.Cond.laysFinal "MemoryTransactions$Worker" "MemoryTransactions$Worker" "thrown" "LMemoryTransactions$Thrown;") ∈ lw_tbl := lw_at lw_m1 190 rfl
theorem q268 : (Jvm.Cond.soleField "MemoryTransactions$Worker" "thrown") ∈ lw_tbl := lw_at lw_m1 191 rfl
theorem q269 : (Jvm.Cond.superclass "MemoryTransactions$Worker" "java/lang/Object") ∈ lw_tbl := lw_at lw_m1 192 rfl
theorem q747 : (Jvm.Cond.fieldLinkNest "MemoryTransactions$Worker" (22 : Nat) "MemoryTransactions$Exp" "op" "C" "MemoryTransactions") ∈ lw_tbl := lw_at lw_m3 190 rfl
theorem q749 : (Jvm.Cond.fieldLinkNest "MemoryTransactions$Worker" (30 : Nat) "MemoryTransactions$Exp" "number" "J" "MemoryTransactions") ∈ lw_tbl := lw_at lw_m3 192 rfl
theorem q751 : (Jvm.Cond.fieldLinkNest "MemoryTransactions$Worker" (33 : Nat) "MemoryTransactions$Exp" "letter" "I" "MemoryTransactions") ∈ lw_tbl := lw_at lw_m3 194 rfl
theorem q753 : (Jvm.Cond.fieldLinkNest "MemoryTransactions$Worker" (43 : Nat) "MemoryTransactions$Exp" "left" "LMemoryTransactions$Exp;" "MemoryTransactions") ∈ lw_tbl := lw_at lw_m3 196 rfl
theorem q755 : (Jvm.Cond.fieldLinkNest "MemoryTransactions$Worker" (51 : Nat) "MemoryTransactions$Exp" "right" "LMemoryTransactions$Exp;" "MemoryTransactions") ∈ lw_tbl := lw_at lw_m3 198 rfl
theorem q871 : (Jvm.Cond.instanceMethod ({ cls := "MemoryTransactions$Worker", name := "work", desc := "(LMemoryTransactions$Exp;LMemoryTransactions$Letters;)J" } : Jvm.MethodName)) ∈ lw_tbl := lw_at lw_m4 74 rfl
theorem q872 : (Jvm.Cond.selects "MemoryTransactions$Worker" ({ cls := "MemoryTransactions$Worker", name := "work", desc := "(LMemoryTransactions$Exp;LMemoryTransactions$Letters;)J" } : Jvm.MethodName) ({ cls := "MemoryTransactions$Worker", name := "work", desc := "(LMemoryTransactions$Exp;LMemoryTransactions$Letters;)J" } : Jvm.MethodName)) ∈ lw_tbl := lw_at lw_m4 75 rfl
theorem q873 : (Jvm.Cond.code ({ cls := "MemoryTransactions$Worker", name := "work", desc := "(LMemoryTransactions$Exp;LMemoryTransactions$Letters;)J" } : Jvm.MethodName) prog_21_method_3_code (7 : Nat) (Option.some Jvm.ClassFile.FieldType.long)) ∈ lw_tbl := lw_at lw_m4 76 rfl
theorem q874 : (Jvm.Cond.interfaceEntry "MemoryTransactions$Worker" (37 : Nat)) ∈ lw_tbl := lw_at lw_m4 77 rfl
theorem q875 : (Jvm.Cond.methodLink "MemoryTransactions$Worker" (37 : Nat) ({ cls := "MemoryTransactions$Letters", name := "of", desc := "(I)J" } : Jvm.MethodName)) ∈ lw_tbl := lw_at lw_m4 78 rfl
theorem q904 : (Jvm.Cond.methodLink "MemoryTransactions$Worker" (47 : Nat) ({ cls := "MemoryTransactions$Worker", name := "work", desc := "(LMemoryTransactions$Exp;LMemoryTransactions$Letters;)J" } : Jvm.MethodName)) ∈ lw_tbl := lw_at lw_m4 107 rfl
theorem q905 : (Jvm.Cond.methodLink "MemoryTransactions$Worker" (54 : Nat) ({ cls := "MemoryTransactions$Worker", name := "divided", desc := "(CJJ)J" } : Jvm.MethodName)) ∈ lw_tbl := lw_at lw_m4 108 rfl
theorem q906 : (Jvm.Cond.privateMethod ({ cls := "MemoryTransactions$Worker", name := "divided", desc := "(CJJ)J" } : Jvm.MethodName)) ∈ lw_tbl := lw_at lw_m4 109 rfl
theorem q907 : (Jvm.Cond.instanceMethod ({ cls := "MemoryTransactions$Worker", name := "divided", desc := "(CJJ)J" } : Jvm.MethodName)) ∈ lw_tbl := lw_at lw_m4 110 rfl
theorem q908 : (Jvm.Cond.code ({ cls := "MemoryTransactions$Worker", name := "divided", desc := "(CJJ)J" } : Jvm.MethodName) prog_21_method_4_code (6 : Nat) (Option.some Jvm.ClassFile.FieldType.long)) ∈ lw_tbl := lw_at lw_m4 111 rfl
theorem q909 : (Jvm.Cond.constantLong "MemoryTransactions$Worker" (58 : Nat) (-1 : Int64)) ∈ lw_tbl := lw_at lw_m4 112 rfl
theorem q910 : (Jvm.Cond.methodLink "MemoryTransactions$Worker" (60 : Nat) ({ cls := "MemoryTransactions$Worker", name := "thrown", desc := "(J)LMemoryTransactions$Thrown;" } : Jvm.MethodName)) ∈ lw_tbl := lw_at lw_m4 113 rfl
theorem q911 : (Jvm.Cond.instanceMethod ({ cls := "MemoryTransactions$Worker", name := "thrown", desc := "(J)LMemoryTransactions$Thrown;" } : Jvm.MethodName)) ∈ lw_tbl := lw_at lw_m4 114 rfl
theorem q912 : (Jvm.Cond.selects "MemoryTransactions$Worker" ({ cls := "MemoryTransactions$Worker", name := "thrown", desc := "(J)LMemoryTransactions$Thrown;" } : Jvm.MethodName) ({ cls := "MemoryTransactions$Worker", name := "thrown", desc := "(J)LMemoryTransactions$Thrown;" } : Jvm.MethodName)) ∈ lw_tbl := lw_at lw_m4 115 rfl
theorem q913 : (Jvm.Cond.code ({ cls := "MemoryTransactions$Worker", name := "thrown", desc := "(J)LMemoryTransactions$Thrown;" } : Jvm.MethodName) prog_21_method_2_code (3 : Nat) (Option.some (Jvm.ClassFile.FieldType.object "MemoryTransactions$Thrown"))) ∈ lw_tbl := lw_at lw_m4 116 rfl
theorem q86 : (Jvm.Cond.initialized "MemoryTransactions$Thrown") ∈ lw_tbl := lw_at lw_m1 9 rfl
theorem q159 : (Jvm.Cond.selects "MemoryTransactions$Thrown" ({ cls := "java/lang/Throwable", name := "fillInStackTrace", desc := "()Ljava/lang/Throwable;" } : Jvm.MethodName) ({ cls := "java/lang/Throwable", name := "fillInStackTrace", desc := "()Ljava/lang/Throwable;" } : Jvm.MethodName)) ∈ lw_tbl := lw_at lw_m1 82 rfl
theorem q245 : (Jvm.Cond.instantiable "MemoryTransactions$Thrown" (7 : Nat)) ∈ lw_tbl := lw_at lw_m1 168 rfl
theorem q246 : (Jvm.Cond.castable "MemoryTransactions$Thrown" "MemoryTransactions$Thrown") ∈ lw_tbl := lw_at lw_m1 169 rfl
theorem q247 : (Jvm.Cond.selects "MemoryTransactions$Thrown" ({ cls := "java/lang/Throwable", name := "fillInStackTrace", desc := "(I)Ljava/lang/Throwable;" } : Jvm.MethodName) ({ cls := "java/lang/Throwable", name := "fillInStackTrace", desc := "(I)Ljava/lang/Throwable;" } : Jvm.MethodName)) ∈ lw_tbl := lw_at lw_m1 170 rfl
theorem q248 : (Jvm.Cond.lays "MemoryTransactions$Thrown" "java/lang/Throwable" "cause" "Ljava/lang/Throwable;") ∈ lw_tbl := lw_at lw_m1 171 rfl
theorem q249 : (Jvm.Cond.lays "MemoryTransactions$Thrown" "java/lang/Throwable" "stackTrace" "[Ljava/lang/StackTraceElement;") ∈ lw_tbl := lw_at lw_m1 172 rfl
theorem q250 : (Jvm.Cond.lays "MemoryTransactions$Thrown" "java/lang/Throwable" "suppressedExceptions" "Ljava/util/List;") ∈ lw_tbl := lw_at lw_m1 173 rfl
theorem q251 : (Jvm.Cond.lays "MemoryTransactions$Thrown" "java/lang/Throwable" "detailMessage" "Ljava/lang/String;") ∈ lw_tbl := lw_at lw_m1 174 rfl
theorem q252 : (Jvm.Cond.lays "MemoryTransactions$Thrown" "java/lang/Throwable" "backtrace" "Ljava/lang/Object;") ∈ lw_tbl := lw_at lw_m1 175 rfl
theorem q254 : (Jvm.Cond.instanceMethod ({ cls := "MemoryTransactions$Thrown", name := "<init>", desc := "()V" } : Jvm.MethodName)) ∈ lw_tbl := lw_at lw_m1 177 rfl
theorem q255 : (Jvm.Cond.code ({ cls := "MemoryTransactions$Thrown", name := "<init>", desc := "()V" } : Jvm.MethodName) prog_20_method_1_code (1 : Nat) (Option.none : Option Jvm.ClassFile.FieldType)) ∈ lw_tbl := lw_at lw_m1 178 rfl
theorem q256 : (Jvm.Cond.stringRef "MemoryTransactions$Thrown" (1 : Nat) "thrown") ∈ lw_tbl := lw_at lw_m1 179 rfl
theorem q257 : (Jvm.Cond.methodLink "MemoryTransactions$Thrown" (3 : Nat) ({ cls := "java/lang/RuntimeException", name := "<init>", desc := "(Ljava/lang/String;Ljava/lang/Throwable;ZZ)V" } : Jvm.MethodName)) ∈ lw_tbl := lw_at lw_m1 180 rfl
theorem q260 : (Jvm.Cond.lays "MemoryTransactions$Thrown" "MemoryTransactions$Thrown" "value" "J") ∈ lw_tbl := lw_at lw_m1 183 rfl
theorem q261 : (Jvm.Cond.soleField "MemoryTransactions$Thrown" "value") ∈ lw_tbl := lw_at lw_m1 184 rfl
theorem q262 : (Jvm.Cond.lays "MemoryTransactions$Thrown" "java/lang/Throwable" "depth" "I") ∈ lw_tbl := lw_at lw_m1 185 rfl
theorem q263 : (Jvm.Cond.superclass "MemoryTransactions$Thrown" "java/lang/RuntimeException") ∈ lw_tbl := lw_at lw_m1 186 rfl
theorem q87 : (Jvm.Cond.initialized "MemoryTransactions$Rows") ∈ lw_tbl := lw_at lw_m1 10 rfl
theorem q297 : (Jvm.Cond.instantiable "MemoryTransactions$Rows" (7 : Nat)) ∈ lw_tbl := lw_at lw_m1 220 rfl
theorem q299 : (Jvm.Cond.instanceMethod ({ cls := "MemoryTransactions$Rows", name := "<init>", desc := "()V" } : Jvm.MethodName)) ∈ lw_tbl := lw_at lw_m1 222 rfl
theorem q300 : (Jvm.Cond.code ({ cls := "MemoryTransactions$Rows", name := "<init>", desc := "()V" } : Jvm.MethodName) prog_14_method_1_code (1 : Nat) (Option.none : Option Jvm.ClassFile.FieldType)) ∈ lw_tbl := lw_at lw_m1 223 rfl
theorem q301 : (Jvm.Cond.methodLink "MemoryTransactions$Rows" (3 : Nat) ({ cls := "java/lang/Object", name := "<init>", desc := "()V" } : Jvm.MethodName)) ∈ lw_tbl := lw_at lw_m1 224 rfl
theorem q302 : (Jvm.Cond.classLink "MemoryTransactions$Rows" (9 : Nat) "MemoryTransactions$Row") ∈ lw_tbl := lw_at lw_m1 225 rfl
theorem q304 : (Jvm.Cond.fieldLink "MemoryTransactions$Rows" (11 : Nat) "MemoryTransactions$Rows" "kinds" "[LMemoryTransactions$Row;") ∈ lw_tbl := lw_at lw_m1 227 rfl
theorem q306 : (Jvm.Cond.fieldLink "MemoryTransactions$Rows" (17 : Nat) "MemoryTransactions$Rows" "clients" "[I") ∈ lw_tbl := lw_at lw_m1 229 rfl
theorem q308 : (Jvm.Cond.fieldLink "MemoryTransactions$Rows" (21 : Nat) "MemoryTransactions$Rows" "things" "[I") ∈ lw_tbl := lw_at lw_m1 231 rfl
theorem q310 : (Jvm.Cond.fieldLink "MemoryTransactions$Rows" (24 : Nat) "MemoryTransactions$Rows" "steps" "[I") ∈ lw_tbl := lw_at lw_m1 233 rfl
theorem q312 : (Jvm.Cond.fieldLink "MemoryTransactions$Rows" (27 : Nat) "MemoryTransactions$Rows" "cuts" "[I") ∈ lw_tbl := lw_at lw_m1 235 rfl
theorem q314 : (Jvm.Cond.fieldLink "MemoryTransactions$Rows" (30 : Nat) "MemoryTransactions$Rows" "values" "[J") ∈ lw_tbl := lw_at lw_m1 237 rfl
theorem q316 : (Jvm.Cond.fieldLink "MemoryTransactions$Rows" (34 : Nat) "MemoryTransactions$Rows" "count" "I") ∈ lw_tbl := lw_at lw_m1 239 rfl
theorem q318 : (Jvm.Cond.laysFinal "MemoryTransactions$Rows" "MemoryTransactions$Rows" "kinds" "[LMemoryTransactions$Row;") ∈ lw_tbl := lw_at lw_m2 1 rfl
theorem q319 : (Jvm.Cond.soleField "MemoryTransactions$Rows" "kinds") ∈ lw_tbl := lw_at lw_m2 2 rfl
theorem q320 : (Jvm.Cond.laysFinal "MemoryTransactions$Rows" "MemoryTransactions$Rows" "clients" "[I") ∈ lw_tbl := lw_at lw_m2 3 rfl
theorem q321 : (Jvm.Cond.soleField "MemoryTransactions$Rows" "clients") ∈ lw_tbl := lw_at lw_m2 4 rfl
theorem q322 : (Jvm.Cond.laysFinal "MemoryTransactions$Rows" "MemoryTransactions$Rows" "things" "[I") ∈ lw_tbl := lw_at lw_m2 5 rfl
theorem q323 : (Jvm.Cond.soleField "MemoryTransactions$Rows" "things") ∈ lw_tbl := lw_at lw_m2 6 rfl
theorem q324 : (Jvm.Cond.laysFinal "MemoryTransactions$Rows" "MemoryTransactions$Rows" "steps" "[I") ∈ lw_tbl := lw_at lw_m2 7 rfl
theorem q325 : (Jvm.Cond.soleField "MemoryTransactions$Rows" "steps") ∈ lw_tbl := lw_at lw_m2 8 rfl
theorem q326 : (Jvm.Cond.laysFinal "MemoryTransactions$Rows" "MemoryTransactions$Rows" "cuts" "[I") ∈ lw_tbl := lw_at lw_m2 9 rfl
theorem q327 : (Jvm.Cond.soleField "MemoryTransactions$Rows" "cuts") ∈ lw_tbl := lw_at lw_m2 10 rfl
theorem q328 : (Jvm.Cond.laysFinal "MemoryTransactions$Rows" "MemoryTransactions$Rows" "values" "[J") ∈ lw_tbl := lw_at lw_m2 11 rfl
theorem q329 : (Jvm.Cond.soleField "MemoryTransactions$Rows" "values") ∈ lw_tbl := lw_at lw_m2 12 rfl
theorem q330 : (Jvm.Cond.lays "MemoryTransactions$Rows" "MemoryTransactions$Rows" "count" "I") ∈ lw_tbl := lw_at lw_m2 13 rfl
theorem q331 : (Jvm.Cond.soleField "MemoryTransactions$Rows" "count") ∈ lw_tbl := lw_at lw_m2 14 rfl
theorem q332 : (Jvm.Cond.superclass "MemoryTransactions$Rows" "java/lang/Object") ∈ lw_tbl := lw_at lw_m2 15 rfl
theorem q917 : (Jvm.Cond.instanceMethod ({ cls := "MemoryTransactions$Rows", name := "add", desc := "(LMemoryTransactions$Row;IIIIJ)V" } : Jvm.MethodName)) ∈ lw_tbl := lw_at lw_m4 120 rfl
theorem q918 : (Jvm.Cond.selects "MemoryTransactions$Rows" ({ cls := "MemoryTransactions$Rows", name := "add", desc := "(LMemoryTransactions$Row;IIIIJ)V" } : Jvm.MethodName) ({ cls := "MemoryTransactions$Rows", name := "add", desc := "(LMemoryTransactions$Row;IIIIJ)V" } : Jvm.MethodName)) ∈ lw_tbl := lw_at lw_m4 121 rfl
theorem q919 : (Jvm.Cond.code ({ cls := "MemoryTransactions$Rows", name := "add", desc := "(LMemoryTransactions$Row;IIIIJ)V" } : Jvm.MethodName) prog_14_method_2_code (8 : Nat) (Option.none : Option Jvm.ClassFile.FieldType)) ∈ lw_tbl := lw_at lw_m4 122 rfl
theorem q88 : (Jvm.Cond.initialized "MemoryTransactions$Run") ∈ lw_tbl := lw_at lw_m1 11 rfl
theorem q259 : (Jvm.Cond.fieldLinkNest "MemoryTransactions$Run" (166 : Nat) "MemoryTransactions$Thrown" "value" "J" "MemoryTransactions") ∈ lw_tbl := lw_at lw_m1 182 rfl
theorem q271 : (Jvm.Cond.fieldLinkNest "MemoryTransactions$Run" (97 : Nat) "MemoryTransactions$Store" "values" "[J" "MemoryTransactions") ∈ lw_tbl := lw_at lw_m1 194 rfl
theorem q274 : (Jvm.Cond.fieldLinkNest "MemoryTransactions$Run" (81 : Nat) "MemoryTransactions$Store" "versions" "[I" "MemoryTransactions") ∈ lw_tbl := lw_at lw_m1 197 rfl
theorem q277 : (Jvm.Cond.fieldLinkNest "MemoryTransactions$Run" (229 : Nat) "MemoryTransactions$Store" "rules" "[LMemoryTransactions$Exp;" "MemoryTransactions") ∈ lw_tbl := lw_at lw_m1 200 rfl
theorem q279 : (Jvm.Cond.fieldLinkNest "MemoryTransactions$Run" (217 : Nat) "MemoryTransactions$Store" "ruleCount" "I" "MemoryTransactions") ∈ lw_tbl := lw_at lw_m1 202 rfl
theorem q282 : (Jvm.Cond.fieldLinkNest "MemoryTransactions$Run" (194 : Nat) "MemoryTransactions$Store" "worker" "LMemoryTransactions$Worker;" "MemoryTransactions") ∈ lw_tbl := lw_at lw_m1 205 rfl
theorem q334 : (Jvm.Cond.instantiable "MemoryTransactions$Run" (15 : Nat)) ∈ lw_tbl := lw_at lw_m2 17 rfl
theorem q336 : (Jvm.Cond.instanceMethod ({ cls := "MemoryTransactions$Run", name := "<init>", desc := "()V" } : Jvm.MethodName)) ∈ lw_tbl := lw_at lw_m2 19 rfl
theorem q337 : (Jvm.Cond.code ({ cls := "MemoryTransactions$Run", name := "<init>", desc := "()V" } : Jvm.MethodName) prog_15_method_1_code (2 : Nat) (Option.none : Option Jvm.ClassFile.FieldType)) ∈ lw_tbl := lw_at lw_m2 20 rfl
theorem q338 : (Jvm.Cond.methodLink "MemoryTransactions$Run" (3 : Nat) ({ cls := "java/lang/Object", name := "<init>", desc := "()V" } : Jvm.MethodName)) ∈ lw_tbl := lw_at lw_m2 21 rfl
theorem q339 : (Jvm.Cond.classLink "MemoryTransactions$Run" (9 : Nat) "MemoryTransactions$Cut") ∈ lw_tbl := lw_at lw_m2 22 rfl
theorem q348 : (Jvm.Cond.methodLink "MemoryTransactions$Run" (11 : Nat) ({ cls := "MemoryTransactions$Cut", name := "<init>", desc := "()V" } : Jvm.MethodName)) ∈ lw_tbl := lw_at lw_m2 31 rfl
theorem q355 : (Jvm.Cond.classLink "MemoryTransactions$Run" (18 : Nat) "MemoryTransactions$State") ∈ lw_tbl := lw_at lw_m2 38 rfl
theorem q357 : (Jvm.Cond.methodLinkNest "MemoryTransactions$Run" (20 : Nat) ({ cls := "MemoryTransactions$State", name := "<init>", desc := "()V" } : Jvm.MethodName) "MemoryTransactions") ∈ lw_tbl := lw_at lw_m2 40 rfl
theorem q362 : (Jvm.Cond.fieldLinkNest "MemoryTransactions$Run" (90 : Nat) "MemoryTransactions$State" "written" "[J" "MemoryTransactions") ∈ lw_tbl := lw_at lw_m2 45 rfl
theorem q364 : (Jvm.Cond.fieldLinkNest "MemoryTransactions$Run" (87 : Nat) "MemoryTransactions$State" "isWritten" "I" "MemoryTransactions") ∈ lw_tbl := lw_at lw_m2 47 rfl
theorem q367 : (Jvm.Cond.fieldLinkNest "MemoryTransactions$Run" (84 : Nat) "MemoryTransactions$State" "locals" "[J" "MemoryTransactions") ∈ lw_tbl := lw_at lw_m2 50 rfl
theorem q369 : (Jvm.Cond.fieldLinkNest "MemoryTransactions$Run" (212 : Nat) "MemoryTransactions$State" "always" "I" "MemoryTransactions") ∈ lw_tbl := lw_at lw_m2 52 rfl
theorem q380 : (Jvm.Cond.classLink "MemoryTransactions$Run" (25 : Nat) "MemoryTransactions$Exp") ∈ lw_tbl := lw_at lw_m2 63 rfl
theorem q381 : (Jvm.Cond.classLink "MemoryTransactions$Run" (39 : Nat) "MemoryTransactions$Level") ∈ lw_tbl := lw_at lw_m2 64 rfl
theorem q383 : (Jvm.Cond.classLink "MemoryTransactions$Run" (45 : Nat) "MemoryTransactions$Run$After") ∈ lw_tbl := lw_at lw_m2 66 rfl
theorem q385 : (Jvm.Cond.methodLinkNest "MemoryTransactions$Run" (47 : Nat) ({ cls := "MemoryTransactions$Run$After", name := "<init>", desc := "(LMemoryTransactions$Run;)V" } : Jvm.MethodName) "MemoryTransactions") ∈ lw_tbl := lw_at lw_m2 68 rfl
theorem q394 : (Jvm.Cond.methodLinkNest "MemoryTransactions$Run" (54 : Nat) ({ cls := "MemoryTransactions$Level", name := "<init>", desc := "()V" } : Jvm.MethodName) "MemoryTransactions") ∈ lw_tbl := lw_at lw_m2 77 rfl
theorem q400 : (Jvm.Cond.fieldLinkNest "MemoryTransactions$Run" (100 : Nat) "MemoryTransactions$Level" "of" "LMemoryTransactions$Statement;" "MemoryTransactions") ∈ lw_tbl := lw_at lw_m2 83 rfl
theorem q401 : (Jvm.Cond.fieldLinkNest "MemoryTransactions$Run" (103 : Nat) "MemoryTransactions$Level" "isFirst" "Z" "MemoryTransactions") ∈ lw_tbl := lw_at lw_m2 84 rfl
theorem q403 : (Jvm.Cond.fieldLinkNest "MemoryTransactions$Run" (107 : Nat) "MemoryTransactions$Level" "before" "LMemoryTransactions$State;" "MemoryTransactions") ∈ lw_tbl := lw_at lw_m2 86 rfl
theorem q412 : (Jvm.Cond.fieldLink "MemoryTransactions$Run" (55 : Nat) "MemoryTransactions$Run" "store" "LMemoryTransactions$Store;") ∈ lw_tbl := lw_at lw_m2 95 rfl
theorem q413 : (Jvm.Cond.fieldLink "MemoryTransactions$Run" (12 : Nat) "MemoryTransactions$Run" "cut" "LMemoryTransactions$Cut;") ∈ lw_tbl := lw_at lw_m2 96 rfl
theorem q414 : (Jvm.Cond.fieldLink "MemoryTransactions$Run" (21 : Nat) "MemoryTransactions$Run" "now" "LMemoryTransactions$State;") ∈ lw_tbl := lw_at lw_m2 97 rfl
theorem q416 : (Jvm.Cond.fieldLink "MemoryTransactions$Run" (27 : Nat) "MemoryTransactions$Run" "always" "[LMemoryTransactions$Exp;") ∈ lw_tbl := lw_at lw_m2 99 rfl
theorem q417 : (Jvm.Cond.fieldLink "MemoryTransactions$Run" (31 : Nat) "MemoryTransactions$Run" "read" "[J") ∈ lw_tbl := lw_at lw_m2 100 rfl
theorem q418 : (Jvm.Cond.fieldLink "MemoryTransactions$Run" (35 : Nat) "MemoryTransactions$Run" "versions" "[I") ∈ lw_tbl := lw_at lw_m2 101 rfl
theorem q419 : (Jvm.Cond.fieldLink "MemoryTransactions$Run" (62 : Nat) "MemoryTransactions$Run" "isRead" "I") ∈ lw_tbl := lw_at lw_m2 102 rfl
theorem q421 : (Jvm.Cond.fieldLink "MemoryTransactions$Run" (41 : Nat) "MemoryTransactions$Run" "levels" "[LMemoryTransactions$Level;") ∈ lw_tbl := lw_at lw_m2 104 rfl
theorem q422 : (Jvm.Cond.fieldLink "MemoryTransactions$Run" (66 : Nat) "MemoryTransactions$Run" "deep" "I") ∈ lw_tbl := lw_at lw_m2 105 rfl
theorem q423 : (Jvm.Cond.fieldLink "MemoryTransactions$Run" (75 : Nat) "MemoryTransactions$Run" "next" "LMemoryTransactions$Statement;") ∈ lw_tbl := lw_at lw_m2 106 rfl
theorem q424 : (Jvm.Cond.fieldLink "MemoryTransactions$Run" (78 : Nat) "MemoryTransactions$Run" "steps" "I") ∈ lw_tbl := lw_at lw_m2 107 rfl
theorem q426 : (Jvm.Cond.fieldLink "MemoryTransactions$Run" (141 : Nat) "MemoryTransactions$Run" "value" "J") ∈ lw_tbl := lw_at lw_m2 109 rfl
theorem q428 : (Jvm.Cond.fieldLink "MemoryTransactions$Run" (137 : Nat) "MemoryTransactions$Run" "before" "I") ∈ lw_tbl := lw_at lw_m2 111 rfl
theorem q429 : (Jvm.Cond.fieldLink "MemoryTransactions$Run" (181 : Nat) "MemoryTransactions$Run" "waits" "Z") ∈ lw_tbl := lw_at lw_m2 112 rfl
theorem q430 : (Jvm.Cond.fieldLink "MemoryTransactions$Run" (50 : Nat) "MemoryTransactions$Run" "after" "LMemoryTransactions$Letters;") ∈ lw_tbl := lw_at lw_m2 113 rfl
theorem q431 : (Jvm.Cond.lays "MemoryTransactions$Run" "MemoryTransactions$Run" "store" "LMemoryTransactions$Store;") ∈ lw_tbl := lw_at lw_m2 114 rfl
theorem q432 : (Jvm.Cond.soleField "MemoryTransactions$Run" "store") ∈ lw_tbl := lw_at lw_m2 115 rfl
theorem q433 : (Jvm.Cond.laysFinal "MemoryTransactions$Run" "MemoryTransactions$Run" "cut" "LMemoryTransactions$Cut;") ∈ lw_tbl := lw_at lw_m2 116 rfl
theorem q434 : (Jvm.Cond.soleField "MemoryTransactions$Run" "cut") ∈ lw_tbl := lw_at lw_m2 117 rfl
theorem q435 : (Jvm.Cond.laysFinal "MemoryTransactions$Run" "MemoryTransactions$Run" "now" "LMemoryTransactions$State;") ∈ lw_tbl := lw_at lw_m2 118 rfl
theorem q436 : (Jvm.Cond.soleField "MemoryTransactions$Run" "now") ∈ lw_tbl := lw_at lw_m2 119 rfl
theorem q437 : (Jvm.Cond.laysFinal "MemoryTransactions$Run" "MemoryTransactions$Run" "always" "[LMemoryTransactions$Exp;") ∈ lw_tbl := lw_at lw_m2 120 rfl
theorem q438 : (Jvm.Cond.soleField "MemoryTransactions$Run" "always") ∈ lw_tbl := lw_at lw_m2 121 rfl
theorem q439 : (Jvm.Cond.laysFinal "MemoryTransactions$Run" "MemoryTransactions$Run" "read" "[J") ∈ lw_tbl := lw_at lw_m2 122 rfl
theorem q440 : (Jvm.Cond.soleField "MemoryTransactions$Run" "read") ∈ lw_tbl := lw_at lw_m2 123 rfl
theorem q441 : (Jvm.Cond.laysFinal "MemoryTransactions$Run" "MemoryTransactions$Run" "versions" "[I") ∈ lw_tbl := lw_at lw_m2 124 rfl
theorem q442 : (Jvm.Cond.soleField "MemoryTransactions$Run" "versions") ∈ lw_tbl := lw_at lw_m2 125 rfl
theorem q443 : (Jvm.Cond.lays "MemoryTransactions$Run" "MemoryTransactions$Run" "isRead" "I") ∈ lw_tbl := lw_at lw_m2 126 rfl
theorem q444 : (Jvm.Cond.soleField "MemoryTransactions$Run" "isRead") ∈ lw_tbl := lw_at lw_m2 127 rfl
theorem q445 : (Jvm.Cond.laysFinal "MemoryTransactions$Run" "MemoryTransactions$Run" "levels" "[LMemoryTransactions$Level;") ∈ lw_tbl := lw_at lw_m2 128 rfl
theorem q446 : (Jvm.Cond.soleField "MemoryTransactions$Run" "levels") ∈ lw_tbl := lw_at lw_m2 129 rfl
theorem q447 : (Jvm.Cond.lays "MemoryTransactions$Run" "MemoryTransactions$Run" "deep" "I") ∈ lw_tbl := lw_at lw_m2 130 rfl
theorem q448 : (Jvm.Cond.soleField "MemoryTransactions$Run" "deep") ∈ lw_tbl := lw_at lw_m2 131 rfl
theorem q449 : (Jvm.Cond.lays "MemoryTransactions$Run" "MemoryTransactions$Run" "next" "LMemoryTransactions$Statement;") ∈ lw_tbl := lw_at lw_m2 132 rfl
theorem q450 : (Jvm.Cond.soleField "MemoryTransactions$Run" "next") ∈ lw_tbl := lw_at lw_m2 133 rfl
theorem q451 : (Jvm.Cond.lays "MemoryTransactions$Run" "MemoryTransactions$Run" "steps" "I") ∈ lw_tbl := lw_at lw_m2 134 rfl
theorem q452 : (Jvm.Cond.soleField "MemoryTransactions$Run" "steps") ∈ lw_tbl := lw_at lw_m2 135 rfl
theorem q453 : (Jvm.Cond.lays "MemoryTransactions$Run" "MemoryTransactions$Run" "value" "J") ∈ lw_tbl := lw_at lw_m2 136 rfl
theorem q454 : (Jvm.Cond.soleField "MemoryTransactions$Run" "value") ∈ lw_tbl := lw_at lw_m2 137 rfl
theorem q455 : (Jvm.Cond.lays "MemoryTransactions$Run" "MemoryTransactions$Run" "before" "I") ∈ lw_tbl := lw_at lw_m2 138 rfl
theorem q456 : (Jvm.Cond.soleField "MemoryTransactions$Run" "before") ∈ lw_tbl := lw_at lw_m2 139 rfl
theorem q457 : (Jvm.Cond.lays "MemoryTransactions$Run" "MemoryTransactions$Run" "waits" "Z") ∈ lw_tbl := lw_at lw_m2 140 rfl
theorem q458 : (Jvm.Cond.soleField "MemoryTransactions$Run" "waits") ∈ lw_tbl := lw_at lw_m2 141 rfl
theorem q459 : (Jvm.Cond.laysFinal "MemoryTransactions$Run" "MemoryTransactions$Run" "after" "LMemoryTransactions$Letters;") ∈ lw_tbl := lw_at lw_m2 142 rfl
theorem q460 : (Jvm.Cond.soleField "MemoryTransactions$Run" "after") ∈ lw_tbl := lw_at lw_m2 143 rfl
theorem q461 : (Jvm.Cond.superclass "MemoryTransactions$Run" "java/lang/Object") ∈ lw_tbl := lw_at lw_m2 144 rfl
theorem q556 : (Jvm.Cond.fieldLinkNest "MemoryTransactions$Run" (69 : Nat) "MemoryTransactions$Program" "first" "LMemoryTransactions$Statement;" "MemoryTransactions") ∈ lw_tbl := lw_at lw_m2 239 rfl
theorem q694 : (Jvm.Cond.fieldLinkNest "MemoryTransactions$Run" (120 : Nat) "MemoryTransactions$Statement" "act" "LMemoryTransactions$Act;" "MemoryTransactions") ∈ lw_tbl := lw_at lw_m3 137 rfl
theorem q696 : (Jvm.Cond.fieldLinkNest "MemoryTransactions$Run" (174 : Nat) "MemoryTransactions$Statement" "letter" "I" "MemoryTransactions") ∈ lw_tbl := lw_at lw_m3 139 rfl
theorem q698 : (Jvm.Cond.fieldLinkNest "MemoryTransactions$Run" (198 : Nat) "MemoryTransactions$Statement" "exp" "LMemoryTransactions$Exp;" "MemoryTransactions") ∈ lw_tbl := lw_at lw_m3 141 rfl
theorem q700 : (Jvm.Cond.fieldLinkNest "MemoryTransactions$Run" (114 : Nat) "MemoryTransactions$Statement" "first" "LMemoryTransactions$Statement;" "MemoryTransactions") ∈ lw_tbl := lw_at lw_m3 143 rfl
theorem q702 : (Jvm.Cond.fieldLinkNest "MemoryTransactions$Run" (117 : Nat) "MemoryTransactions$Statement" "second" "LMemoryTransactions$Statement;" "MemoryTransactions") ∈ lw_tbl := lw_at lw_m3 145 rfl
theorem q704 : (Jvm.Cond.fieldLinkNest "MemoryTransactions$Run" (129 : Nat) "MemoryTransactions$Statement" "next" "LMemoryTransactions$Statement;" "MemoryTransactions") ∈ lw_tbl := lw_at lw_m3 147 rfl
theorem q878 : (Jvm.Cond.castable "MemoryTransactions$Run" "MemoryTransactions$Letters") ∈ lw_tbl := lw_at lw_m4 81 rfl
theorem q879 : (Jvm.Cond.selects "MemoryTransactions$Run" ({ cls := "MemoryTransactions$Letters", name := "of", desc := "(I)J" } : Jvm.MethodName) ({ cls := "MemoryTransactions$Run", name := "of", desc := "(I)J" } : Jvm.MethodName)) ∈ lw_tbl := lw_at lw_m4 82 rfl
theorem q880 : (Jvm.Cond.unhidden "MemoryTransactions$Run" "of" "(I)J") ∈ lw_tbl := lw_at lw_m4 83 rfl
theorem q881 : (Jvm.Cond.instanceMethod ({ cls := "MemoryTransactions$Run", name := "of", desc := "(I)J" } : Jvm.MethodName)) ∈ lw_tbl := lw_at lw_m4 84 rfl
theorem q882 : (Jvm.Cond.publicMethod ({ cls := "MemoryTransactions$Run", name := "of", desc := "(I)J" } : Jvm.MethodName)) ∈ lw_tbl := lw_at lw_m4 85 rfl
theorem q883 : (Jvm.Cond.code ({ cls := "MemoryTransactions$Run", name := "of", desc := "(I)J" } : Jvm.MethodName) prog_15_method_4_code (2 : Nat) (Option.some Jvm.ClassFile.FieldType.long)) ∈ lw_tbl := lw_at lw_m4 86 rfl
theorem q884 : (Jvm.Cond.methodLink "MemoryTransactions$Run" (93 : Nat) ({ cls := "MemoryTransactions$Run", name := "isFresh", desc := "()Z" } : Jvm.MethodName)) ∈ lw_tbl := lw_at lw_m4 87 rfl
theorem q885 : (Jvm.Cond.instanceMethod ({ cls := "MemoryTransactions$Run", name := "isFresh", desc := "()Z" } : Jvm.MethodName)) ∈ lw_tbl := lw_at lw_m4 88 rfl
theorem q886 : (Jvm.Cond.selects "MemoryTransactions$Run" ({ cls := "MemoryTransactions$Run", name := "isFresh", desc := "()Z" } : Jvm.MethodName) ({ cls := "MemoryTransactions$Run", name := "isFresh", desc := "()Z" } : Jvm.MethodName)) ∈ lw_tbl := lw_at lw_m4 89 rfl
theorem q887 : (Jvm.Cond.code ({ cls := "MemoryTransactions$Run", name := "isFresh", desc := "()Z" } : Jvm.MethodName) prog_15_method_3_code (2 : Nat) (Option.some Jvm.ClassFile.FieldType.boolean)) ∈ lw_tbl := lw_at lw_m4 90 rfl
theorem q895 : (Jvm.Cond.instanceMethod ({ cls := "MemoryTransactions$Run", name := "sees", desc := "(I)J" } : Jvm.MethodName)) ∈ lw_tbl := lw_at lw_m4 98 rfl
theorem q896 : (Jvm.Cond.selects "MemoryTransactions$Run" ({ cls := "MemoryTransactions$Run", name := "sees", desc := "(I)J" } : Jvm.MethodName) ({ cls := "MemoryTransactions$Run", name := "sees", desc := "(I)J" } : Jvm.MethodName)) ∈ lw_tbl := lw_at lw_m4 99 rfl
theorem q897 : (Jvm.Cond.code ({ cls := "MemoryTransactions$Run", name := "sees", desc := "(I)J" } : Jvm.MethodName) prog_15_method_5_code (2 : Nat) (Option.some Jvm.ClassFile.FieldType.long)) ∈ lw_tbl := lw_at lw_m4 100 rfl
theorem q958 : (Jvm.Cond.instanceMethod ({ cls := "MemoryTransactions$Run", name := "begin", desc := "(LMemoryTransactions$Store;LMemoryTransactions$Program;)V" } : Jvm.MethodName)) ∈ lw_tbl := lw_at lw_m4 161 rfl
theorem q959 : (Jvm.Cond.selects "MemoryTransactions$Run" ({ cls := "MemoryTransactions$Run", name := "begin", desc := "(LMemoryTransactions$Store;LMemoryTransactions$Program;)V" } : Jvm.MethodName) ({ cls := "MemoryTransactions$Run", name := "begin", desc := "(LMemoryTransactions$Store;LMemoryTransactions$Program;)V" } : Jvm.MethodName)) ∈ lw_tbl := lw_at lw_m4 162 rfl
theorem q960 : (Jvm.Cond.code ({ cls := "MemoryTransactions$Run", name := "begin", desc := "(LMemoryTransactions$Store;LMemoryTransactions$Program;)V" } : Jvm.MethodName) prog_15_method_2_code (3 : Nat) (Option.none : Option Jvm.ClassFile.FieldType)) ∈ lw_tbl := lw_at lw_m4 163 rfl
theorem q961 : (Jvm.Cond.methodLink "MemoryTransactions$Run" (59 : Nat) ({ cls := "MemoryTransactions$State", name := "clear", desc := "()V" } : Jvm.MethodName)) ∈ lw_tbl := lw_at lw_m4 164 rfl
theorem q969 : (Jvm.Cond.instanceMethod ({ cls := "MemoryTransactions$Run", name := "step", desc := "()LMemoryTransactions$Outcome;" } : Jvm.MethodName)) ∈ lw_tbl := lw_at lw_m4 172 rfl
theorem q970 : (Jvm.Cond.selects "MemoryTransactions$Run" ({ cls := "MemoryTransactions$Run", name := "step", desc := "()LMemoryTransactions$Outcome;" } : Jvm.MethodName) ({ cls := "MemoryTransactions$Run", name := "step", desc := "()LMemoryTransactions$Outcome;" } : Jvm.MethodName)) ∈ lw_tbl := lw_at lw_m4 173 rfl
theorem q971 : (Jvm.Cond.codeWith ({ cls := "MemoryTransactions$Run", name := "step", desc := "()LMemoryTransactions$Outcome;" } : Jvm.MethodName) prog_15_method_10_code (3 : Nat) (Option.some (Jvm.ClassFile.FieldType.object "MemoryTransactions$Outcome")) [((52 : Nat), (60 : Nat), (63 : Nat), (9 : Nat)), ((52 : Nat), (60 : Nat), (68 : Nat), (164 : Nat))]) ∈ lw_tbl := lw_at lw_m4 174 rfl
theorem q972 : (Jvm.Cond.classLink "MemoryTransactions$Run" (164 : Nat) "MemoryTransactions$Thrown") ∈ lw_tbl := lw_at lw_m4 175 rfl
theorem q973 : (Jvm.Cond.methodLink "MemoryTransactions$Run" (134 : Nat) ({ cls := "MemoryTransactions$Run", name := "leave", desc := "()V" } : Jvm.MethodName)) ∈ lw_tbl := lw_at lw_m4 176 rfl
theorem q974 : (Jvm.Cond.privateMethod ({ cls := "MemoryTransactions$Run", name := "leave", desc := "()V" } : Jvm.MethodName)) ∈ lw_tbl := lw_at lw_m4 177 rfl
theorem q975 : (Jvm.Cond.instanceMethod ({ cls := "MemoryTransactions$Run", name := "leave", desc := "()V" } : Jvm.MethodName)) ∈ lw_tbl := lw_at lw_m4 178 rfl
theorem q976 : (Jvm.Cond.code ({ cls := "MemoryTransactions$Run", name := "leave", desc := "()V" } : Jvm.MethodName) prog_15_method_8_code (2 : Nat) (Option.none : Option Jvm.ClassFile.FieldType)) ∈ lw_tbl := lw_at lw_m4 179 rfl
theorem q977 : (Jvm.Cond.fieldLink "MemoryTransactions$Run" (124 : Nat) "MemoryTransactions$Act" "WHILE" "LMemoryTransactions$Act;") ∈ lw_tbl := lw_at lw_m4 180 rfl
theorem q978 : (Jvm.Cond.constantLong "MemoryTransactions$Run" (139 : Nat) (-3 : Int64)) ∈ lw_tbl := lw_at lw_m4 181 rfl
theorem q979 : (Jvm.Cond.fieldLink "MemoryTransactions$Run" (145 : Nat) "MemoryTransactions$Outcome" "THROWN" "LMemoryTransactions$Outcome;") ∈ lw_tbl := lw_at lw_m4 182 rfl
theorem q981 : (Jvm.Cond.methodLink "MemoryTransactions$Run" (151 : Nat) ({ cls := "MemoryTransactions$Run", name := "ends", desc := "(LMemoryTransactions$Outcome;)LMemoryTransactions$Outcome;" } : Jvm.MethodName)) ∈ lw_tbl := lw_at lw_m4 184 rfl
theorem q982 : (Jvm.Cond.privateMethod ({ cls := "MemoryTransactions$Run", name := "ends", desc := "(LMemoryTransactions$Outcome;)LMemoryTransactions$Outcome;" } : Jvm.MethodName)) ∈ lw_tbl := lw_at lw_m4 185 rfl
theorem q983 : (Jvm.Cond.instanceMethod ({ cls := "MemoryTransactions$Run", name := "ends", desc := "(LMemoryTransactions$Outcome;)LMemoryTransactions$Outcome;" } : Jvm.MethodName)) ∈ lw_tbl := lw_at lw_m4 186 rfl
theorem q984 : (Jvm.Cond.code ({ cls := "MemoryTransactions$Run", name := "ends", desc := "(LMemoryTransactions$Outcome;)LMemoryTransactions$Outcome;" } : Jvm.MethodName) prog_15_method_11_code (2 : Nat) (Option.some (Jvm.ClassFile.FieldType.object "MemoryTransactions$Outcome"))) ∈ lw_tbl := lw_at lw_m4 187 rfl
theorem q985 : (Jvm.Cond.fieldLink "MemoryTransactions$Run" (161 : Nat) "MemoryTransactions$Outcome" "CUT" "LMemoryTransactions$Outcome;") ∈ lw_tbl := lw_at lw_m4 188 rfl
theorem q987 : (Jvm.Cond.fieldLink "MemoryTransactions$Run" (155 : Nat) "MemoryTransactions$Outcome" "DONE" "LMemoryTransactions$Outcome;") ∈ lw_tbl := lw_at lw_m4 190 rfl
theorem q989 : (Jvm.Cond.methodLink "MemoryTransactions$Run" (158 : Nat) ({ cls := "MemoryTransactions$Run", name := "act", desc := "(LMemoryTransactions$Statement;)V" } : Jvm.MethodName)) ∈ lw_tbl := lw_at lw_m4 192 rfl
theorem q990 : (Jvm.Cond.privateMethod ({ cls := "MemoryTransactions$Run", name := "act", desc := "(LMemoryTransactions$Statement;)V" } : Jvm.MethodName)) ∈ lw_tbl := lw_at lw_m4 193 rfl
theorem q991 : (Jvm.Cond.instanceMethod ({ cls := "MemoryTransactions$Run", name := "act", desc := "(LMemoryTransactions$Statement;)V" } : Jvm.MethodName)) ∈ lw_tbl := lw_at lw_m4 194 rfl
theorem q992 : (Jvm.Cond.code ({ cls := "MemoryTransactions$Run", name := "act", desc := "(LMemoryTransactions$Statement;)V" } : Jvm.MethodName) prog_15_method_13_code (4 : Nat) (Option.none : Option Jvm.ClassFile.FieldType)) ∈ lw_tbl := lw_at lw_m4 195 rfl
theorem q993 : (Jvm.Cond.methodLink "MemoryTransactions$Run" (190 : Nat) ({ cls := "MemoryTransactions$Act", name := "ordinal", desc := "()I" } : Jvm.MethodName)) ∈ lw_tbl := lw_at lw_m4 196 rfl
theorem q996 : (Jvm.Cond.methodLink "MemoryTransactions$Run" (202 : Nat) ({ cls := "MemoryTransactions$Worker", name := "work", desc := "(LMemoryTransactions$Exp;LMemoryTransactions$Letters;)J" } : Jvm.MethodName)) ∈ lw_tbl := lw_at lw_m4 199 rfl
theorem q997 : (Jvm.Cond.methodLink "MemoryTransactions$Run" (177 : Nat) ({ cls := "MemoryTransactions$Run", name := "write", desc := "(IJ)V" } : Jvm.MethodName)) ∈ lw_tbl := lw_at lw_m4 200 rfl
theorem q998 : (Jvm.Cond.privateMethod ({ cls := "MemoryTransactions$Run", name := "write", desc := "(IJ)V" } : Jvm.MethodName)) ∈ lw_tbl := lw_at lw_m4 201 rfl
theorem q999 : (Jvm.Cond.instanceMethod ({ cls := "MemoryTransactions$Run", name := "write", desc := "(IJ)V" } : Jvm.MethodName)) ∈ lw_tbl := lw_at lw_m4 202 rfl
theorem q1000 : (Jvm.Cond.code ({ cls := "MemoryTransactions$Run", name := "write", desc := "(IJ)V" } : Jvm.MethodName) prog_15_method_6_code (4 : Nat) (Option.none : Option Jvm.ClassFile.FieldType)) ∈ lw_tbl := lw_at lw_m4 203 rfl
theorem q1001 : (Jvm.Cond.methodLink "MemoryTransactions$Run" (130 : Nat) ({ cls := "MemoryTransactions$Run", name := "enter", desc := "(LMemoryTransactions$Statement;Z)V" } : Jvm.MethodName)) ∈ lw_tbl := lw_at lw_m4 204 rfl
theorem q1002 : (Jvm.Cond.privateMethod ({ cls := "MemoryTransactions$Run", name := "enter", desc := "(LMemoryTransactions$Statement;Z)V" } : Jvm.MethodName)) ∈ lw_tbl := lw_at lw_m4 205 rfl
theorem q1003 : (Jvm.Cond.instanceMethod ({ cls := "MemoryTransactions$Run", name := "enter", desc := "(LMemoryTransactions$Statement;Z)V" } : Jvm.MethodName)) ∈ lw_tbl := lw_at lw_m4 206 rfl
theorem q1004 : (Jvm.Cond.code ({ cls := "MemoryTransactions$Run", name := "enter", desc := "(LMemoryTransactions$Statement;Z)V" } : Jvm.MethodName) prog_15_method_7_code (4 : Nat) (Option.none : Option Jvm.ClassFile.FieldType)) ∈ lw_tbl := lw_at lw_m4 207 rfl
theorem q1005 : (Jvm.Cond.methodLink "MemoryTransactions$Run" (110 : Nat) ({ cls := "MemoryTransactions$State", name := "set", desc := "(LMemoryTransactions$State;)V" } : Jvm.MethodName)) ∈ lw_tbl := lw_at lw_m4 208 rfl
theorem q1010 : (Jvm.Cond.methodLink "MemoryTransactions$Run" (208 : Nat) ({ cls := "MemoryTransactions$Worker", name := "thrown", desc := "(J)LMemoryTransactions$Thrown;" } : Jvm.MethodName)) ∈ lw_tbl := lw_at lw_m4 213 rfl
theorem q1011 : (Jvm.Cond.fieldLink "MemoryTransactions$Run" (214 : Nat) "MemoryTransactions$Act" "EITHER" "LMemoryTransactions$Act;") ∈ lw_tbl := lw_at lw_m4 214 rfl
theorem q1012 : (Jvm.Cond.methodLink "MemoryTransactions$Run" (170 : Nat) ({ cls := "MemoryTransactions$Run", name := "goBack", desc := "(LMemoryTransactions$Act;)Z" } : Jvm.MethodName)) ∈ lw_tbl := lw_at lw_m4 215 rfl
theorem q1013 : (Jvm.Cond.privateMethod ({ cls := "MemoryTransactions$Run", name := "goBack", desc := "(LMemoryTransactions$Act;)Z" } : Jvm.MethodName)) ∈ lw_tbl := lw_at lw_m4 216 rfl
theorem q1014 : (Jvm.Cond.instanceMethod ({ cls := "MemoryTransactions$Run", name := "goBack", desc := "(LMemoryTransactions$Act;)Z" } : Jvm.MethodName)) ∈ lw_tbl := lw_at lw_m4 217 rfl
theorem q1015 : (Jvm.Cond.code ({ cls := "MemoryTransactions$Run", name := "goBack", desc := "(LMemoryTransactions$Act;)Z" } : Jvm.MethodName) prog_15_method_9_code (3 : Nat) (Option.some Jvm.ClassFile.FieldType.boolean)) ∈ lw_tbl := lw_at lw_m4 218 rfl
theorem q1016 : (Jvm.Cond.fieldLink "MemoryTransactions$Run" (167 : Nat) "MemoryTransactions$Act" "TRY" "LMemoryTransactions$Act;") ∈ lw_tbl := lw_at lw_m4 219 rfl
theorem q1017 : (Jvm.Cond.fieldLink "MemoryTransactions$Run" (184 : Nat) "MemoryTransactions$Outcome" "WAITS" "LMemoryTransactions$Outcome;") ∈ lw_tbl := lw_at lw_m4 220 rfl
theorem q1018 : (Jvm.Cond.fieldLink "MemoryTransactions$Run" (187 : Nat) "MemoryTransactions$Outcome" "STEP" "LMemoryTransactions$Outcome;") ∈ lw_tbl := lw_at lw_m4 221 rfl
theorem q1043 : (Jvm.Cond.instanceMethod ({ cls := "MemoryTransactions$Run", name := "undo", desc := "()V" } : Jvm.MethodName)) ∈ lw_tbl := lw_at lw_m5 6 rfl
theorem q1044 : (Jvm.Cond.selects "MemoryTransactions$Run" ({ cls := "MemoryTransactions$Run", name := "undo", desc := "()V" } : Jvm.MethodName) ({ cls := "MemoryTransactions$Run", name := "undo", desc := "()V" } : Jvm.MethodName)) ∈ lw_tbl := lw_at lw_m5 7 rfl
theorem q1045 : (Jvm.Cond.code ({ cls := "MemoryTransactions$Run", name := "undo", desc := "()V" } : Jvm.MethodName) prog_15_method_12_code (1 : Nat) (Option.none : Option Jvm.ClassFile.FieldType)) ∈ lw_tbl := lw_at lw_m5 8 rfl
theorem q1050 : (Jvm.Cond.instanceMethod ({ cls := "MemoryTransactions$Run", name := "hold", desc := "()Z" } : Jvm.MethodName)) ∈ lw_tbl := lw_at lw_m5 13 rfl
theorem q1051 : (Jvm.Cond.selects "MemoryTransactions$Run" ({ cls := "MemoryTransactions$Run", name := "hold", desc := "()Z" } : Jvm.MethodName) ({ cls := "MemoryTransactions$Run", name := "hold", desc := "()Z" } : Jvm.MethodName)) ∈ lw_tbl := lw_at lw_m5 14 rfl
theorem q1052 : (Jvm.Cond.code ({ cls := "MemoryTransactions$Run", name := "hold", desc := "()Z" } : Jvm.MethodName) prog_15_method_14_code (3 : Nat) (Option.some Jvm.ClassFile.FieldType.boolean)) ∈ lw_tbl := lw_at lw_m5 15 rfl
theorem q1053 : (Jvm.Cond.methodLink "MemoryTransactions$Run" (220 : Nat) ({ cls := "MemoryTransactions$Store", name := "hold", desc := "(LMemoryTransactions$Letters;)Z" } : Jvm.MethodName)) ∈ lw_tbl := lw_at lw_m5 16 rfl
theorem q1054 : (Jvm.Cond.methodLink "MemoryTransactions$Run" (224 : Nat) ({ cls := "MemoryTransactions$Store", name := "holds", desc := "(LMemoryTransactions$Exp;LMemoryTransactions$Letters;)Z" } : Jvm.MethodName)) ∈ lw_tbl := lw_at lw_m5 17 rfl
theorem q1057 : (Jvm.Cond.instanceMethod ({ cls := "MemoryTransactions$Run", name := "join", desc := "()V" } : Jvm.MethodName)) ∈ lw_tbl := lw_at lw_m5 20 rfl
theorem q1058 : (Jvm.Cond.selects "MemoryTransactions$Run" ({ cls := "MemoryTransactions$Run", name := "join", desc := "()V" } : Jvm.MethodName) ({ cls := "MemoryTransactions$Run", name := "join", desc := "()V" } : Jvm.MethodName)) ∈ lw_tbl := lw_at lw_m5 21 rfl
theorem q1059 : (Jvm.Cond.code ({ cls := "MemoryTransactions$Run", name := "join", desc := "()V" } : Jvm.MethodName) prog_15_method_15_code (2 : Nat) (Option.none : Option Jvm.ClassFile.FieldType)) ∈ lw_tbl := lw_at lw_m5 22 rfl
theorem q1060 : (Jvm.Cond.methodLink "MemoryTransactions$Run" (228 : Nat) ({ cls := "MemoryTransactions$Store", name := "write", desc := "(IJ)V" } : Jvm.MethodName)) ∈ lw_tbl := lw_at lw_m5 23 rfl
theorem q89 : (Jvm.Cond.initialized "MemoryTransactions$Cut") ∈ lw_tbl := lw_at lw_m1 12 rfl
theorem q158 : (Jvm.Cond.selects "MemoryTransactions$Cut" ({ cls := "java/lang/Throwable", name := "fillInStackTrace", desc := "()Ljava/lang/Throwable;" } : Jvm.MethodName) ({ cls := "java/lang/Throwable", name := "fillInStackTrace", desc := "()Ljava/lang/Throwable;" } : Jvm.MethodName)) ∈ lw_tbl := lw_at lw_m1 81 rfl
theorem q340 : (Jvm.Cond.instantiable "MemoryTransactions$Cut" (6 : Nat)) ∈ lw_tbl := lw_at lw_m2 23 rfl
theorem q341 : (Jvm.Cond.castable "MemoryTransactions$Cut" "MemoryTransactions$Cut") ∈ lw_tbl := lw_at lw_m2 24 rfl
theorem q342 : (Jvm.Cond.selects "MemoryTransactions$Cut" ({ cls := "java/lang/Throwable", name := "fillInStackTrace", desc := "(I)Ljava/lang/Throwable;" } : Jvm.MethodName) ({ cls := "java/lang/Throwable", name := "fillInStackTrace", desc := "(I)Ljava/lang/Throwable;" } : Jvm.MethodName)) ∈ lw_tbl := lw_at lw_m2 25 rfl
theorem q343 : (Jvm.Cond.lays "MemoryTransactions$Cut" "java/lang/Throwable" "cause" "Ljava/lang/Throwable;") ∈ lw_tbl := lw_at lw_m2 26 rfl
theorem q344 : (Jvm.Cond.lays "MemoryTransactions$Cut" "java/lang/Throwable" "stackTrace" "[Ljava/lang/StackTraceElement;") ∈ lw_tbl := lw_at lw_m2 27 rfl
theorem q345 : (Jvm.Cond.lays "MemoryTransactions$Cut" "java/lang/Throwable" "suppressedExceptions" "Ljava/util/List;") ∈ lw_tbl := lw_at lw_m2 28 rfl
theorem q346 : (Jvm.Cond.lays "MemoryTransactions$Cut" "java/lang/Throwable" "detailMessage" "Ljava/lang/String;") ∈ lw_tbl := lw_at lw_m2 29 rfl
theorem q347 : (Jvm.Cond.lays "MemoryTransactions$Cut" "java/lang/Throwable" "backtrace" "Ljava/lang/Object;") ∈ lw_tbl := lw_at lw_m2 30 rfl
theorem q349 : (Jvm.Cond.instanceMethod ({ cls := "MemoryTransactions$Cut", name := "<init>", desc := "()V" } : Jvm.MethodName)) ∈ lw_tbl := lw_at lw_m2 32 rfl
theorem q350 : (Jvm.Cond.code ({ cls := "MemoryTransactions$Cut", name := "<init>", desc := "()V" } : Jvm.MethodName) prog_4_method_1_code (1 : Nat) (Option.none : Option Jvm.ClassFile.FieldType)) ∈ lw_tbl := lw_at lw_m2 33 rfl
theorem q351 : (Jvm.Cond.stringRef "MemoryTransactions$Cut" (1 : Nat) "cut") ∈ lw_tbl := lw_at lw_m2 34 rfl
theorem q352 : (Jvm.Cond.methodLink "MemoryTransactions$Cut" (3 : Nat) ({ cls := "java/lang/RuntimeException", name := "<init>", desc := "(Ljava/lang/String;Ljava/lang/Throwable;ZZ)V" } : Jvm.MethodName)) ∈ lw_tbl := lw_at lw_m2 35 rfl
theorem q353 : (Jvm.Cond.lays "MemoryTransactions$Cut" "java/lang/Throwable" "depth" "I") ∈ lw_tbl := lw_at lw_m2 36 rfl
theorem q354 : (Jvm.Cond.superclass "MemoryTransactions$Cut" "java/lang/RuntimeException") ∈ lw_tbl := lw_at lw_m2 37 rfl
theorem q90 : (Jvm.Cond.initialized "MemoryTransactions$State") ∈ lw_tbl := lw_at lw_m1 13 rfl
theorem q356 : (Jvm.Cond.instantiable "MemoryTransactions$State" (4 : Nat)) ∈ lw_tbl := lw_at lw_m2 39 rfl
theorem q358 : (Jvm.Cond.instanceMethod ({ cls := "MemoryTransactions$State", name := "<init>", desc := "()V" } : Jvm.MethodName)) ∈ lw_tbl := lw_at lw_m2 41 rfl
theorem q359 : (Jvm.Cond.code ({ cls := "MemoryTransactions$State", name := "<init>", desc := "()V" } : Jvm.MethodName) prog_17_method_1_code (1 : Nat) (Option.none : Option Jvm.ClassFile.FieldType)) ∈ lw_tbl := lw_at lw_m2 42 rfl
theorem q360 : (Jvm.Cond.methodLink "MemoryTransactions$State" (3 : Nat) ({ cls := "java/lang/Object", name := "<init>", desc := "()V" } : Jvm.MethodName)) ∈ lw_tbl := lw_at lw_m2 43 rfl
theorem q361 : (Jvm.Cond.fieldLink "MemoryTransactions$State" (9 : Nat) "MemoryTransactions$State" "written" "[J") ∈ lw_tbl := lw_at lw_m2 44 rfl
theorem q363 : (Jvm.Cond.fieldLink "MemoryTransactions$State" (18 : Nat) "MemoryTransactions$State" "isWritten" "I") ∈ lw_tbl := lw_at lw_m2 46 rfl
theorem q366 : (Jvm.Cond.fieldLink "MemoryTransactions$State" (15 : Nat) "MemoryTransactions$State" "locals" "[J") ∈ lw_tbl := lw_at lw_m2 49 rfl
theorem q368 : (Jvm.Cond.fieldLink "MemoryTransactions$State" (28 : Nat) "MemoryTransactions$State" "always" "I") ∈ lw_tbl := lw_at lw_m2 51 rfl
theorem q371 : (Jvm.Cond.laysFinal "MemoryTransactions$State" "MemoryTransactions$State" "written" "[J") ∈ lw_tbl := lw_at lw_m2 54 rfl
theorem q372 : (Jvm.Cond.soleField "MemoryTransactions$State" "written") ∈ lw_tbl := lw_at lw_m2 55 rfl
theorem q373 : (Jvm.Cond.lays "MemoryTransactions$State" "MemoryTransactions$State" "isWritten" "I") ∈ lw_tbl := lw_at lw_m2 56 rfl
theorem q374 : (Jvm.Cond.soleField "MemoryTransactions$State" "isWritten") ∈ lw_tbl := lw_at lw_m2 57 rfl
theorem q375 : (Jvm.Cond.laysFinal "MemoryTransactions$State" "MemoryTransactions$State" "locals" "[J") ∈ lw_tbl := lw_at lw_m2 58 rfl
theorem q376 : (Jvm.Cond.soleField "MemoryTransactions$State" "locals") ∈ lw_tbl := lw_at lw_m2 59 rfl
theorem q377 : (Jvm.Cond.lays "MemoryTransactions$State" "MemoryTransactions$State" "always" "I") ∈ lw_tbl := lw_at lw_m2 60 rfl
theorem q378 : (Jvm.Cond.soleField "MemoryTransactions$State" "always") ∈ lw_tbl := lw_at lw_m2 61 rfl
theorem q379 : (Jvm.Cond.superclass "MemoryTransactions$State" "java/lang/Object") ∈ lw_tbl := lw_at lw_m2 62 rfl
theorem q962 : (Jvm.Cond.instanceMethod ({ cls := "MemoryTransactions$State", name := "clear", desc := "()V" } : Jvm.MethodName)) ∈ lw_tbl := lw_at lw_m4 165 rfl
theorem q963 : (Jvm.Cond.selects "MemoryTransactions$State" ({ cls := "MemoryTransactions$State", name := "clear", desc := "()V" } : Jvm.MethodName) ({ cls := "MemoryTransactions$State", name := "clear", desc := "()V" } : Jvm.MethodName)) ∈ lw_tbl := lw_at lw_m4 166 rfl
theorem q964 : (Jvm.Cond.code ({ cls := "MemoryTransactions$State", name := "clear", desc := "()V" } : Jvm.MethodName) prog_17_method_2_code (1 : Nat) (Option.none : Option Jvm.ClassFile.FieldType)) ∈ lw_tbl := lw_at lw_m4 167 rfl
theorem q965 : (Jvm.Cond.methodLink "MemoryTransactions$State" (22 : Nat) ({ cls := "java/util/Arrays", name := "fill", desc := "([JJ)V" } : Jvm.MethodName)) ∈ lw_tbl := lw_at lw_m4 168 rfl
theorem q1006 : (Jvm.Cond.instanceMethod ({ cls := "MemoryTransactions$State", name := "set", desc := "(LMemoryTransactions$State;)V" } : Jvm.MethodName)) ∈ lw_tbl := lw_at lw_m4 209 rfl
theorem q1007 : (Jvm.Cond.selects "MemoryTransactions$State" ({ cls := "MemoryTransactions$State", name := "set", desc := "(LMemoryTransactions$State;)V" } : Jvm.MethodName) ({ cls := "MemoryTransactions$State", name := "set", desc := "(LMemoryTransactions$State;)V" } : Jvm.MethodName)) ∈ lw_tbl := lw_at lw_m4 210 rfl
theorem q1008 : (Jvm.Cond.code ({ cls := "MemoryTransactions$State", name := "set", desc := "(LMemoryTransactions$State;)V" } : Jvm.MethodName) prog_17_method_3_code (2 : Nat) (Option.none : Option Jvm.ClassFile.FieldType)) ∈ lw_tbl := lw_at lw_m4 211 rfl
theorem q1009 : (Jvm.Cond.methodLink "MemoryTransactions$State" (31 : Nat) ({ cls := "java/lang/System", name := "arraycopy", desc := "(Ljava/lang/Object;ILjava/lang/Object;II)V" } : Jvm.MethodName)) ∈ lw_tbl := lw_at lw_m4 212 rfl
theorem q91 : (Jvm.Cond.initialized "MemoryTransactions$Run$After") ∈ lw_tbl := lw_at lw_m1 14 rfl
theorem q384 : (Jvm.Cond.instantiable "MemoryTransactions$Run$After" (1 : Nat)) ∈ lw_tbl := lw_at lw_m2 67 rfl
theorem q386 : (Jvm.Cond.instanceMethod ({ cls := "MemoryTransactions$Run$After", name := "<init>", desc := "(LMemoryTransactions$Run;)V" } : Jvm.MethodName)) ∈ lw_tbl := lw_at lw_m2 69 rfl
theorem q387 : (Jvm.Cond.code ({ cls := "MemoryTransactions$Run$After", name := "<init>", desc := "(LMemoryTransactions$Run;)V" } : Jvm.MethodName) prog_16_method_1_code (2 : Nat) (Option.none : Option Jvm.ClassFile.FieldType)) ∈ lw_tbl := lw_at lw_m2 70 rfl
theorem q388 : (Jvm.Cond.methodLink "MemoryTransactions$Run$After" (7 : Nat) ({ cls := "java/lang/Object", name := "<init>", desc := "()V" } : Jvm.MethodName)) ∈ lw_tbl := lw_at lw_m2 71 rfl
theorem q389 : (Jvm.Cond.fieldLink "MemoryTransactions$Run$After" (1 : Nat) "MemoryTransactions$Run$After" "this$0" "LMemoryTransactions$Run;") ∈ lw_tbl := lw_at lw_m2 72 rfl
theorem q390 : (Jvm.Cond.laysFinal "MemoryTransactions$Run$After" "MemoryTransactions$Run$After" "this$0" "LMemoryTransactions$Run;") ∈ lw_tbl := lw_at lw_m2 73 rfl
theorem q391 : (Jvm.Cond.soleField "MemoryTransactions$Run$After" "this$0") ∈ lw_tbl := lw_at lw_m2 74 rfl
theorem q392 : (Jvm.Cond.superclass "MemoryTransactions$Run$After" "java/lang/Object") ∈ lw_tbl := lw_at lw_m2 75 rfl
theorem q888 : (Jvm.Cond.castable "MemoryTransactions$Run$After" "MemoryTransactions$Letters") ∈ lw_tbl := lw_at lw_m4 91 rfl
theorem q889 : (Jvm.Cond.selects "MemoryTransactions$Run$After" ({ cls := "MemoryTransactions$Letters", name := "of", desc := "(I)J" } : Jvm.MethodName) ({ cls := "MemoryTransactions$Run$After", name := "of", desc := "(I)J" } : Jvm.MethodName)) ∈ lw_tbl := lw_at lw_m4 92 rfl
theorem q890 : (Jvm.Cond.unhidden "MemoryTransactions$Run$After" "of" "(I)J") ∈ lw_tbl := lw_at lw_m4 93 rfl
theorem q891 : (Jvm.Cond.instanceMethod ({ cls := "MemoryTransactions$Run$After", name := "of", desc := "(I)J" } : Jvm.MethodName)) ∈ lw_tbl := lw_at lw_m4 94 rfl
theorem q892 : (Jvm.Cond.publicMethod ({ cls := "MemoryTransactions$Run$After", name := "of", desc := "(I)J" } : Jvm.MethodName)) ∈ lw_tbl := lw_at lw_m4 95 rfl
theorem q893 : (Jvm.Cond.code ({ cls := "MemoryTransactions$Run$After", name := "of", desc := "(I)J" } : Jvm.MethodName) prog_16_method_2_code (2 : Nat) (Option.some Jvm.ClassFile.FieldType.long)) ∈ lw_tbl := lw_at lw_m4 96 rfl
theorem q894 : (Jvm.Cond.methodLink "MemoryTransactions$Run$After" (13 : Nat) ({ cls := "MemoryTransactions$Run", name := "sees", desc := "(I)J" } : Jvm.MethodName)) ∈ lw_tbl := lw_at lw_m4 97 rfl
theorem q92 : (Jvm.Cond.initialized "MemoryTransactions$Level") ∈ lw_tbl := lw_at lw_m1 15 rfl
theorem q393 : (Jvm.Cond.instantiable "MemoryTransactions$Level" (3 : Nat)) ∈ lw_tbl := lw_at lw_m2 76 rfl
theorem q395 : (Jvm.Cond.instanceMethod ({ cls := "MemoryTransactions$Level", name := "<init>", desc := "()V" } : Jvm.MethodName)) ∈ lw_tbl := lw_at lw_m2 78 rfl
theorem q396 : (Jvm.Cond.code ({ cls := "MemoryTransactions$Level", name := "<init>", desc := "()V" } : Jvm.MethodName) prog_8_method_1_code (1 : Nat) (Option.none : Option Jvm.ClassFile.FieldType)) ∈ lw_tbl := lw_at lw_m2 79 rfl
theorem q397 : (Jvm.Cond.methodLink "MemoryTransactions$Level" (1 : Nat) ({ cls := "java/lang/Object", name := "<init>", desc := "()V" } : Jvm.MethodName)) ∈ lw_tbl := lw_at lw_m2 80 rfl
theorem q398 : (Jvm.Cond.classLink "MemoryTransactions$Level" (7 : Nat) "MemoryTransactions$State") ∈ lw_tbl := lw_at lw_m2 81 rfl
theorem q399 : (Jvm.Cond.methodLinkNest "MemoryTransactions$Level" (9 : Nat) ({ cls := "MemoryTransactions$State", name := "<init>", desc := "()V" } : Jvm.MethodName) "MemoryTransactions") ∈ lw_tbl := lw_at lw_m2 82 rfl
theorem q402 : (Jvm.Cond.fieldLink "MemoryTransactions$Level" (10 : Nat) "MemoryTransactions$Level" "before" "LMemoryTransactions$State;") ∈ lw_tbl := lw_at lw_m2 85 rfl
theorem q404 : (Jvm.Cond.lays "MemoryTransactions$Level" "MemoryTransactions$Level" "of" "LMemoryTransactions$Statement;") ∈ lw_tbl := lw_at lw_m2 87 rfl
theorem q405 : (Jvm.Cond.soleField "MemoryTransactions$Level" "of") ∈ lw_tbl := lw_at lw_m2 88 rfl
theorem q406 : (Jvm.Cond.lays "MemoryTransactions$Level" "MemoryTransactions$Level" "isFirst" "Z") ∈ lw_tbl := lw_at lw_m2 89 rfl
theorem q407 : (Jvm.Cond.soleField "MemoryTransactions$Level" "isFirst") ∈ lw_tbl := lw_at lw_m2 90 rfl
theorem q408 : (Jvm.Cond.laysFinal "MemoryTransactions$Level" "MemoryTransactions$Level" "before" "LMemoryTransactions$State;") ∈ lw_tbl := lw_at lw_m2 91 rfl
theorem q409 : (Jvm.Cond.soleField "MemoryTransactions$Level" "before") ∈ lw_tbl := lw_at lw_m2 92 rfl
theorem q410 : (Jvm.Cond.superclass "MemoryTransactions$Level" "java/lang/Object") ∈ lw_tbl := lw_at lw_m2 93 rfl
theorem q93 : (Jvm.Cond.initialized "MemoryTransactions$Client") ∈ lw_tbl := lw_at lw_m1 16 rfl
theorem q462 : (Jvm.Cond.instantiable "MemoryTransactions$Client" (6 : Nat)) ∈ lw_tbl := lw_at lw_m2 145 rfl
theorem q464 : (Jvm.Cond.instanceMethod ({ cls := "MemoryTransactions$Client", name := "<init>", desc := "()V" } : Jvm.MethodName)) ∈ lw_tbl := lw_at lw_m2 147 rfl
theorem q465 : (Jvm.Cond.code ({ cls := "MemoryTransactions$Client", name := "<init>", desc := "()V" } : Jvm.MethodName) prog_3_method_1_code (1 : Nat) (Option.none : Option Jvm.ClassFile.FieldType)) ∈ lw_tbl := lw_at lw_m2 148 rfl
theorem q466 : (Jvm.Cond.methodLink "MemoryTransactions$Client" (3 : Nat) ({ cls := "java/lang/Object", name := "<init>", desc := "()V" } : Jvm.MethodName)) ∈ lw_tbl := lw_at lw_m2 149 rfl
theorem q467 : (Jvm.Cond.classLink "MemoryTransactions$Client" (15 : Nat) "MemoryTransactions$Run") ∈ lw_tbl := lw_at lw_m2 150 rfl
theorem q468 : (Jvm.Cond.methodLink "MemoryTransactions$Client" (17 : Nat) ({ cls := "MemoryTransactions$Run", name := "<init>", desc := "()V" } : Jvm.MethodName)) ∈ lw_tbl := lw_at lw_m2 151 rfl
theorem q469 : (Jvm.Cond.fieldLink "MemoryTransactions$Client" (22 : Nat) "MemoryTransactions$Phase" "IDLE" "LMemoryTransactions$Phase;") ∈ lw_tbl := lw_at lw_m2 152 rfl
theorem q471 : (Jvm.Cond.fieldLink "MemoryTransactions$Client" (9 : Nat) "MemoryTransactions$Client" "queue" "[I") ∈ lw_tbl := lw_at lw_m2 154 rfl
theorem q473 : (Jvm.Cond.fieldLink "MemoryTransactions$Client" (31 : Nat) "MemoryTransactions$Client" "count" "I") ∈ lw_tbl := lw_at lw_m2 156 rfl
theorem q475 : (Jvm.Cond.fieldLink "MemoryTransactions$Client" (35 : Nat) "MemoryTransactions$Client" "cuts" "I") ∈ lw_tbl := lw_at lw_m2 158 rfl
theorem q477 : (Jvm.Cond.fieldLink "MemoryTransactions$Client" (38 : Nat) "MemoryTransactions$Client" "urgent" "Z") ∈ lw_tbl := lw_at lw_m2 160 rfl
theorem q479 : (Jvm.Cond.fieldLink "MemoryTransactions$Client" (18 : Nat) "MemoryTransactions$Client" "run" "LMemoryTransactions$Run;") ∈ lw_tbl := lw_at lw_m2 162 rfl
theorem q481 : (Jvm.Cond.fieldLink "MemoryTransactions$Client" (28 : Nat) "MemoryTransactions$Client" "phase" "LMemoryTransactions$Phase;") ∈ lw_tbl := lw_at lw_m2 164 rfl
theorem q483 : (Jvm.Cond.laysFinal "MemoryTransactions$Client" "MemoryTransactions$Client" "queue" "[I") ∈ lw_tbl := lw_at lw_m2 166 rfl
theorem q484 : (Jvm.Cond.soleField "MemoryTransactions$Client" "queue") ∈ lw_tbl := lw_at lw_m2 167 rfl
theorem q485 : (Jvm.Cond.lays "MemoryTransactions$Client" "MemoryTransactions$Client" "count" "I") ∈ lw_tbl := lw_at lw_m2 168 rfl
theorem q486 : (Jvm.Cond.soleField "MemoryTransactions$Client" "count") ∈ lw_tbl := lw_at lw_m2 169 rfl
theorem q487 : (Jvm.Cond.lays "MemoryTransactions$Client" "MemoryTransactions$Client" "cuts" "I") ∈ lw_tbl := lw_at lw_m2 170 rfl
theorem q488 : (Jvm.Cond.soleField "MemoryTransactions$Client" "cuts") ∈ lw_tbl := lw_at lw_m2 171 rfl
theorem q489 : (Jvm.Cond.lays "MemoryTransactions$Client" "MemoryTransactions$Client" "urgent" "Z") ∈ lw_tbl := lw_at lw_m2 172 rfl
theorem q490 : (Jvm.Cond.soleField "MemoryTransactions$Client" "urgent") ∈ lw_tbl := lw_at lw_m2 173 rfl
theorem q491 : (Jvm.Cond.laysFinal "MemoryTransactions$Client" "MemoryTransactions$Client" "run" "LMemoryTransactions$Run;") ∈ lw_tbl := lw_at lw_m2 174 rfl
theorem q492 : (Jvm.Cond.soleField "MemoryTransactions$Client" "run") ∈ lw_tbl := lw_at lw_m2 175 rfl
theorem q493 : (Jvm.Cond.lays "MemoryTransactions$Client" "MemoryTransactions$Client" "phase" "LMemoryTransactions$Phase;") ∈ lw_tbl := lw_at lw_m2 176 rfl
theorem q494 : (Jvm.Cond.soleField "MemoryTransactions$Client" "phase") ∈ lw_tbl := lw_at lw_m2 177 rfl
theorem q495 : (Jvm.Cond.superclass "MemoryTransactions$Client" "java/lang/Object") ∈ lw_tbl := lw_at lw_m2 178 rfl
theorem q1025 : (Jvm.Cond.instanceMethod ({ cls := "MemoryTransactions$Client", name := "cut", desc := "()V" } : Jvm.MethodName)) ∈ lw_tbl := lw_at lw_m4 228 rfl
theorem q1026 : (Jvm.Cond.selects "MemoryTransactions$Client" ({ cls := "MemoryTransactions$Client", name := "cut", desc := "()V" } : Jvm.MethodName) ({ cls := "MemoryTransactions$Client", name := "cut", desc := "()V" } : Jvm.MethodName)) ∈ lw_tbl := lw_at lw_m4 229 rfl
theorem q1027 : (Jvm.Cond.code ({ cls := "MemoryTransactions$Client", name := "cut", desc := "()V" } : Jvm.MethodName) prog_3_method_3_code (1 : Nat) (Option.none : Option Jvm.ClassFile.FieldType)) ∈ lw_tbl := lw_at lw_m4 230 rfl
theorem q1028 : (Jvm.Cond.fieldLink "MemoryTransactions$Client" (42 : Nat) "MemoryTransactions$Phase" "BEGINS" "LMemoryTransactions$Phase;") ∈ lw_tbl := lw_at lw_m4 231 rfl
theorem q1030 : (Jvm.Cond.instanceMethod ({ cls := "MemoryTransactions$Client", name := "waits", desc := "()V" } : Jvm.MethodName)) ∈ lw_tbl := lw_at lw_m4 233 rfl
theorem q1031 : (Jvm.Cond.selects "MemoryTransactions$Client" ({ cls := "MemoryTransactions$Client", name := "waits", desc := "()V" } : Jvm.MethodName) ({ cls := "MemoryTransactions$Client", name := "waits", desc := "()V" } : Jvm.MethodName)) ∈ lw_tbl := lw_at lw_m4 234 rfl
theorem q1032 : (Jvm.Cond.code ({ cls := "MemoryTransactions$Client", name := "waits", desc := "()V" } : Jvm.MethodName) prog_3_method_4_code (1 : Nat) (Option.none : Option Jvm.ClassFile.FieldType)) ∈ lw_tbl := lw_at lw_m4 235 rfl
theorem q1033 : (Jvm.Cond.fieldLink "MemoryTransactions$Client" (45 : Nat) "MemoryTransactions$Phase" "WAITS" "LMemoryTransactions$Phase;") ∈ lw_tbl := lw_at lw_m4 236 rfl
theorem q1069 : (Jvm.Cond.instanceMethod ({ cls := "MemoryTransactions$Client", name := "over", desc := "()V" } : Jvm.MethodName)) ∈ lw_tbl := lw_at lw_m5 32 rfl
theorem q1070 : (Jvm.Cond.selects "MemoryTransactions$Client" ({ cls := "MemoryTransactions$Client", name := "over", desc := "()V" } : Jvm.MethodName) ({ cls := "MemoryTransactions$Client", name := "over", desc := "()V" } : Jvm.MethodName)) ∈ lw_tbl := lw_at lw_m5 33 rfl
theorem q1071 : (Jvm.Cond.code ({ cls := "MemoryTransactions$Client", name := "over", desc := "()V" } : Jvm.MethodName) prog_3_method_5_code (1 : Nat) (Option.none : Option Jvm.ClassFile.FieldType)) ∈ lw_tbl := lw_at lw_m5 34 rfl
theorem q1072 : (Jvm.Cond.methodLink "MemoryTransactions$Client" (48 : Nat) ({ cls := "java/lang/System", name := "arraycopy", desc := "(Ljava/lang/Object;ILjava/lang/Object;II)V" } : Jvm.MethodName)) ∈ lw_tbl := lw_at lw_m5 35 rfl
theorem q1139 : (Jvm.Cond.instanceMethod ({ cls := "MemoryTransactions$Client", name := "clear", desc := "()V" } : Jvm.MethodName)) ∈ lw_tbl := lw_at lw_m5 102 rfl
theorem q1140 : (Jvm.Cond.selects "MemoryTransactions$Client" ({ cls := "MemoryTransactions$Client", name := "clear", desc := "()V" } : Jvm.MethodName) ({ cls := "MemoryTransactions$Client", name := "clear", desc := "()V" } : Jvm.MethodName)) ∈ lw_tbl := lw_at lw_m5 103 rfl
theorem q1141 : (Jvm.Cond.code ({ cls := "MemoryTransactions$Client", name := "clear", desc := "()V" } : Jvm.MethodName) prog_3_method_2_code (1 : Nat) (Option.none : Option Jvm.ClassFile.FieldType)) ∈ lw_tbl := lw_at lw_m5 104 rfl
theorem q96 : (Jvm.Cond.initialized "MemoryTransactionsModel") ∈ lw_tbl := lw_at lw_m1 19 rfl
theorem q1143 : (Jvm.Cond.instantiable "MemoryTransactionsModel" (76 : Nat)) ∈ lw_tbl := lw_at lw_m5 106 rfl
theorem q1145 : (Jvm.Cond.instanceMethod ({ cls := "MemoryTransactionsModel", name := "<init>", desc := "()V" } : Jvm.MethodName)) ∈ lw_tbl := lw_at lw_m5 108 rfl
theorem q1146 : (Jvm.Cond.code ({ cls := "MemoryTransactionsModel", name := "<init>", desc := "()V" } : Jvm.MethodName) prog_23_method_1_code (1 : Nat) (Option.none : Option Jvm.ClassFile.FieldType)) ∈ lw_tbl := lw_at lw_m5 109 rfl
theorem q1147 : (Jvm.Cond.methodLink "MemoryTransactionsModel" (1 : Nat) ({ cls := "java/lang/Object", name := "<init>", desc := "()V" } : Jvm.MethodName)) ∈ lw_tbl := lw_at lw_m5 110 rfl
theorem q1148 : (Jvm.Cond.fieldLink "MemoryTransactionsModel" (173 : Nat) "MemoryTransactionsModel" "code" "I") ∈ lw_tbl := lw_at lw_m5 111 rfl
theorem q1149 : (Jvm.Cond.fieldLink "MemoryTransactionsModel" (7 : Nat) "MemoryTransactionsModel" "tape" "[B") ∈ lw_tbl := lw_at lw_m5 112 rfl
theorem q1150 : (Jvm.Cond.fieldLink "MemoryTransactionsModel" (176 : Nat) "MemoryTransactionsModel" "size" "I") ∈ lw_tbl := lw_at lw_m5 113 rfl
theorem q1151 : (Jvm.Cond.fieldLink "MemoryTransactionsModel" (199 : Nat) "MemoryTransactionsModel" "at" "I") ∈ lw_tbl := lw_at lw_m5 114 rfl
theorem q1152 : (Jvm.Cond.fieldLink "MemoryTransactionsModel" (209 : Nat) "MemoryTransactionsModel" "token" "I") ∈ lw_tbl := lw_at lw_m5 115 rfl
theorem q1153 : (Jvm.Cond.fieldLink "MemoryTransactionsModel" (206 : Nat) "MemoryTransactionsModel" "tokenPlace" "I") ∈ lw_tbl := lw_at lw_m5 116 rfl
theorem q1154 : (Jvm.Cond.fieldLink "MemoryTransactionsModel" (216 : Nat) "MemoryTransactionsModel" "letter" "I") ∈ lw_tbl := lw_at lw_m5 117 rfl
theorem q1155 : (Jvm.Cond.fieldLink "MemoryTransactionsModel" (226 : Nat) "MemoryTransactionsModel" "number" "J") ∈ lw_tbl := lw_at lw_m5 118 rfl
theorem q1156 : (Jvm.Cond.fieldLink "MemoryTransactionsModel" (234 : Nat) "MemoryTransactionsModel" "sign" "I") ∈ lw_tbl := lw_at lw_m5 119 rfl
theorem q1157 : (Jvm.Cond.fieldLink "MemoryTransactionsModel" (240 : Nat) "MemoryTransactionsModel" "bad" "Z") ∈ lw_tbl := lw_at lw_m5 120 rfl
theorem q1158 : (Jvm.Cond.fieldLink "MemoryTransactionsModel" (13 : Nat) "MemoryTransactionsModel" "place" "I") ∈ lw_tbl := lw_at lw_m5 121 rfl
theorem q1159 : (Jvm.Cond.fieldLink "MemoryTransactionsModel" (310 : Nat) "MemoryTransactionsModel" "texts" "I") ∈ lw_tbl := lw_at lw_m5 122 rfl
theorem q1160 : (Jvm.Cond.fieldLink "MemoryTransactionsModel" (17 : Nat) "MemoryTransactionsModel" "statementCounts" "[I") ∈ lw_tbl := lw_at lw_m5 123 rfl
theorem q1161 : (Jvm.Cond.fieldLink "MemoryTransactionsModel" (21 : Nat) "MemoryTransactionsModel" "unaryCounts" "[I") ∈ lw_tbl := lw_at lw_m5 124 rfl
theorem q1162 : (Jvm.Cond.fieldLink "MemoryTransactionsModel" (24 : Nat) "MemoryTransactionsModel" "depths" "[I") ∈ lw_tbl := lw_at lw_m5 125 rfl
theorem q1163 : (Jvm.Cond.fieldLink "MemoryTransactionsModel" (27 : Nat) "MemoryTransactionsModel" "firstStatements" "[I") ∈ lw_tbl := lw_at lw_m5 126 rfl
theorem q1164 : (Jvm.Cond.fieldLink "MemoryTransactionsModel" (30 : Nat) "MemoryTransactionsModel" "actCounts" "[I") ∈ lw_tbl := lw_at lw_m5 127 rfl
theorem q1165 : (Jvm.Cond.fieldLink "MemoryTransactionsModel" (33 : Nat) "MemoryTransactionsModel" "kinds" "[I") ∈ lw_tbl := lw_at lw_m5 128 rfl
theorem q1166 : (Jvm.Cond.fieldLink "MemoryTransactionsModel" (36 : Nat) "MemoryTransactionsModel" "nexts" "[I") ∈ lw_tbl := lw_at lw_m5 129 rfl
theorem q1167 : (Jvm.Cond.fieldLink "MemoryTransactionsModel" (39 : Nat) "MemoryTransactionsModel" "parents" "[I") ∈ lw_tbl := lw_at lw_m5 130 rfl
theorem q1168 : (Jvm.Cond.fieldLink "MemoryTransactionsModel" (42 : Nat) "MemoryTransactionsModel" "whiches" "[I") ∈ lw_tbl := lw_at lw_m5 131 rfl
theorem q1169 : (Jvm.Cond.fieldLink "MemoryTransactionsModel" (45 : Nat) "MemoryTransactionsModel" "exps" "[I") ∈ lw_tbl := lw_at lw_m5 132 rfl
theorem q1170 : (Jvm.Cond.fieldLink "MemoryTransactionsModel" (48 : Nat) "MemoryTransactionsModel" "firstBodies" "[I") ∈ lw_tbl := lw_at lw_m5 133 rfl
theorem q1171 : (Jvm.Cond.fieldLink "MemoryTransactionsModel" (51 : Nat) "MemoryTransactionsModel" "secondBodies" "[I") ∈ lw_tbl := lw_at lw_m5 134 rfl
theorem q1172 : (Jvm.Cond.fieldLink "MemoryTransactionsModel" (54 : Nat) "MemoryTransactionsModel" "letters" "[I") ∈ lw_tbl := lw_at lw_m5 135 rfl
theorem q1173 : (Jvm.Cond.fieldLink "MemoryTransactionsModel" (57 : Nat) "MemoryTransactionsModel" "acts" "[I") ∈ lw_tbl := lw_at lw_m5 136 rfl
theorem q1174 : (Jvm.Cond.fieldLink "MemoryTransactionsModel" (60 : Nat) "MemoryTransactionsModel" "actLetters" "[I") ∈ lw_tbl := lw_at lw_m5 137 rfl
theorem q1175 : (Jvm.Cond.fieldLink "MemoryTransactionsModel" (63 : Nat) "MemoryTransactionsModel" "actNumbers" "[J") ∈ lw_tbl := lw_at lw_m5 138 rfl
theorem q1176 : (Jvm.Cond.fieldLink "MemoryTransactionsModel" (253 : Nat) "MemoryTransactionsModel" "reading" "I") ∈ lw_tbl := lw_at lw_m5 139 rfl
theorem q1177 : (Jvm.Cond.fieldLink "MemoryTransactionsModel" (67 : Nat) "MemoryTransactionsModel" "pile" "[I") ∈ lw_tbl := lw_at lw_m5 140 rfl
theorem q1178 : (Jvm.Cond.fieldLink "MemoryTransactionsModel" (256 : Nat) "MemoryTransactionsModel" "piled" "I") ∈ lw_tbl := lw_at lw_m5 141 rfl
theorem q1179 : (Jvm.Cond.fieldLink "MemoryTransactionsModel" (266 : Nat) "MemoryTransactionsModel" "opens" "I") ∈ lw_tbl := lw_at lw_m5 142 rfl
theorem q1180 : (Jvm.Cond.fieldLink "MemoryTransactionsModel" (70 : Nat) "MemoryTransactionsModel" "compared" "[Z") ∈ lw_tbl := lw_at lw_m5 143 rfl
theorem q1181 : (Jvm.Cond.fieldLink "MemoryTransactionsModel" (269 : Nat) "MemoryTransactionsModel" "level" "I") ∈ lw_tbl := lw_at lw_m5 144 rfl
theorem q1182 : (Jvm.Cond.fieldLink "MemoryTransactionsModel" (74 : Nat) "MemoryTransactionsModel" "openOwners" "[I") ∈ lw_tbl := lw_at lw_m5 145 rfl
theorem q1183 : (Jvm.Cond.fieldLink "MemoryTransactionsModel" (77 : Nat) "MemoryTransactionsModel" "openWhiches" "[I") ∈ lw_tbl := lw_at lw_m5 146 rfl
theorem q1184 : (Jvm.Cond.fieldLink "MemoryTransactionsModel" (80 : Nat) "MemoryTransactionsModel" "openLasts" "[I") ∈ lw_tbl := lw_at lw_m5 147 rfl
theorem q1185 : (Jvm.Cond.fieldLink "MemoryTransactionsModel" (283 : Nat) "MemoryTransactionsModel" "within" "I") ∈ lw_tbl := lw_at lw_m5 148 rfl
theorem q1186 : (Jvm.Cond.fieldLink "MemoryTransactionsModel" (83 : Nat) "MemoryTransactionsModel" "cells" "[J") ∈ lw_tbl := lw_at lw_m5 149 rfl
theorem q1187 : (Jvm.Cond.fieldLink "MemoryTransactionsModel" (86 : Nat) "MemoryTransactionsModel" "versions" "[I") ∈ lw_tbl := lw_at lw_m5 150 rfl
theorem q1188 : (Jvm.Cond.fieldLink "MemoryTransactionsModel" (89 : Nat) "MemoryTransactionsModel" "ruleCounts" "[I") ∈ lw_tbl := lw_at lw_m5 151 rfl
theorem q1189 : (Jvm.Cond.fieldLink "MemoryTransactionsModel" (92 : Nat) "MemoryTransactionsModel" "ruleExps" "[I") ∈ lw_tbl := lw_at lw_m5 152 rfl
theorem q1190 : (Jvm.Cond.fieldLink "MemoryTransactionsModel" (319 : Nat) "MemoryTransactionsModel" "world" "I") ∈ lw_tbl := lw_at lw_m5 153 rfl
theorem q1191 : (Jvm.Cond.fieldLink "MemoryTransactionsModel" (95 : Nat) "MemoryTransactionsModel" "queues" "[I") ∈ lw_tbl := lw_at lw_m5 154 rfl
theorem q1192 : (Jvm.Cond.fieldLink "MemoryTransactionsModel" (98 : Nat) "MemoryTransactionsModel" "queueCounts" "[I") ∈ lw_tbl := lw_at lw_m5 155 rfl
theorem q1193 : (Jvm.Cond.fieldLink "MemoryTransactionsModel" (101 : Nat) "MemoryTransactionsModel" "states" "[I") ∈ lw_tbl := lw_at lw_m5 156 rfl
theorem q1194 : (Jvm.Cond.fieldLink "MemoryTransactionsModel" (104 : Nat) "MemoryTransactionsModel" "steps" "[I") ∈ lw_tbl := lw_at lw_m5 157 rfl
theorem q1195 : (Jvm.Cond.fieldLink "MemoryTransactionsModel" (107 : Nat) "MemoryTransactionsModel" "cuts" "[I") ∈ lw_tbl := lw_at lw_m5 158 rfl
theorem q1196 : (Jvm.Cond.fieldLink "MemoryTransactionsModel" (110 : Nat) "MemoryTransactionsModel" "urgent" "[Z") ∈ lw_tbl := lw_at lw_m5 159 rfl
theorem q1197 : (Jvm.Cond.fieldLink "MemoryTransactionsModel" (113 : Nat) "MemoryTransactionsModel" "readBits" "[I") ∈ lw_tbl := lw_at lw_m5 160 rfl
theorem q1198 : (Jvm.Cond.fieldLink "MemoryTransactionsModel" (116 : Nat) "MemoryTransactionsModel" "readValues" "[J") ∈ lw_tbl := lw_at lw_m5 161 rfl
theorem q1199 : (Jvm.Cond.fieldLink "MemoryTransactionsModel" (119 : Nat) "MemoryTransactionsModel" "readVersions" "[I") ∈ lw_tbl := lw_at lw_m5 162 rfl
theorem q1200 : (Jvm.Cond.fieldLink "MemoryTransactionsModel" (316 : Nat) "MemoryTransactionsModel" "bits" "I") ∈ lw_tbl := lw_at lw_m5 163 rfl
theorem q1201 : (Jvm.Cond.fieldLink "MemoryTransactionsModel" (122 : Nat) "MemoryTransactionsModel" "seen" "[J") ∈ lw_tbl := lw_at lw_m5 164 rfl
theorem q1202 : (Jvm.Cond.fieldLink "MemoryTransactionsModel" (125 : Nat) "MemoryTransactionsModel" "seenVersions" "[I") ∈ lw_tbl := lw_at lw_m5 165 rfl
theorem q1203 : (Jvm.Cond.fieldLink "MemoryTransactionsModel" (322 : Nat) "MemoryTransactionsModel" "writtenBits" "I") ∈ lw_tbl := lw_at lw_m5 166 rfl
theorem q1204 : (Jvm.Cond.fieldLink "MemoryTransactionsModel" (128 : Nat) "MemoryTransactionsModel" "written" "[J") ∈ lw_tbl := lw_at lw_m5 167 rfl
theorem q1205 : (Jvm.Cond.fieldLink "MemoryTransactionsModel" (131 : Nat) "MemoryTransactionsModel" "locals" "[J") ∈ lw_tbl := lw_at lw_m5 168 rfl
theorem q1206 : (Jvm.Cond.fieldLink "MemoryTransactionsModel" (348 : Nat) "MemoryTransactionsModel" "alwaysCount" "I") ∈ lw_tbl := lw_at lw_m5 169 rfl
theorem q1207 : (Jvm.Cond.fieldLink "MemoryTransactionsModel" (134 : Nat) "MemoryTransactionsModel" "always" "[I") ∈ lw_tbl := lw_at lw_m5 170 rfl
theorem q1208 : (Jvm.Cond.fieldLink "MemoryTransactionsModel" (351 : Nat) "MemoryTransactionsModel" "pos" "I") ∈ lw_tbl := lw_at lw_m5 171 rfl
theorem q1209 : (Jvm.Cond.fieldLink "MemoryTransactionsModel" (137 : Nat) "MemoryTransactionsModel" "keptBits" "[I") ∈ lw_tbl := lw_at lw_m5 172 rfl
theorem q1210 : (Jvm.Cond.fieldLink "MemoryTransactionsModel" (140 : Nat) "MemoryTransactionsModel" "keptWritten" "[J") ∈ lw_tbl := lw_at lw_m5 173 rfl
theorem q1211 : (Jvm.Cond.fieldLink "MemoryTransactionsModel" (143 : Nat) "MemoryTransactionsModel" "keptLocals" "[J") ∈ lw_tbl := lw_at lw_m5 174 rfl
theorem q1212 : (Jvm.Cond.fieldLink "MemoryTransactionsModel" (146 : Nat) "MemoryTransactionsModel" "keptAlways" "[I") ∈ lw_tbl := lw_at lw_m5 175 rfl
theorem q1213 : (Jvm.Cond.fieldLink "MemoryTransactionsModel" (329 : Nat) "MemoryTransactionsModel" "ended" "I") ∈ lw_tbl := lw_at lw_m5 176 rfl
theorem q1214 : (Jvm.Cond.fieldLink "MemoryTransactionsModel" (342 : Nat) "MemoryTransactionsModel" "thrownValue" "J") ∈ lw_tbl := lw_at lw_m5 177 rfl
theorem q1215 : (Jvm.Cond.fieldLink "MemoryTransactionsModel" (149 : Nat) "MemoryTransactionsModel" "stack" "[J") ∈ lw_tbl := lw_at lw_m5 178 rfl
theorem q1216 : (Jvm.Cond.fieldLink "MemoryTransactionsModel" (152 : Nat) "MemoryTransactionsModel" "would" "[J") ∈ lw_tbl := lw_at lw_m5 179 rfl
theorem q1217 : (Jvm.Cond.fieldLink "MemoryTransactionsModel" (386 : Nat) "MemoryTransactionsModel" "rows" "I") ∈ lw_tbl := lw_at lw_m5 180 rfl
theorem q1218 : (Jvm.Cond.fieldLink "MemoryTransactionsModel" (155 : Nat) "MemoryTransactionsModel" "rowKinds" "[I") ∈ lw_tbl := lw_at lw_m5 181 rfl
theorem q1219 : (Jvm.Cond.fieldLink "MemoryTransactionsModel" (158 : Nat) "MemoryTransactionsModel" "rowClients" "[I") ∈ lw_tbl := lw_at lw_m5 182 rfl
theorem q1220 : (Jvm.Cond.fieldLink "MemoryTransactionsModel" (161 : Nat) "MemoryTransactionsModel" "rowNumbers" "[I") ∈ lw_tbl := lw_at lw_m5 183 rfl
theorem q1221 : (Jvm.Cond.fieldLink "MemoryTransactionsModel" (164 : Nat) "MemoryTransactionsModel" "rowSteps" "[I") ∈ lw_tbl := lw_at lw_m5 184 rfl
theorem q1222 : (Jvm.Cond.fieldLink "MemoryTransactionsModel" (167 : Nat) "MemoryTransactionsModel" "rowCuts" "[I") ∈ lw_tbl := lw_at lw_m5 185 rfl
theorem q1223 : (Jvm.Cond.fieldLink "MemoryTransactionsModel" (170 : Nat) "MemoryTransactionsModel" "rowValues" "[J") ∈ lw_tbl := lw_at lw_m5 186 rfl
theorem q1224 : (Jvm.Cond.lays "MemoryTransactionsModel" "MemoryTransactionsModel" "code" "I") ∈ lw_tbl := lw_at lw_m5 187 rfl
theorem q1225 : (Jvm.Cond.soleField "MemoryTransactionsModel" "code") ∈ lw_tbl := lw_at lw_m5 188 rfl
theorem q1226 : (Jvm.Cond.laysFinal "MemoryTransactionsModel" "MemoryTransactionsModel" "tape" "[B") ∈ lw_tbl := lw_at lw_m5 189 rfl
theorem q1227 : (Jvm.Cond.soleField "MemoryTransactionsModel" "tape") ∈ lw_tbl := lw_at lw_m5 190 rfl
theorem q1228 : (Jvm.Cond.lays "MemoryTransactionsModel" "MemoryTransactionsModel" "size" "I") ∈ lw_tbl := lw_at lw_m5 191 rfl
theorem q1229 : (Jvm.Cond.soleField "MemoryTransactionsModel" "size") ∈ lw_tbl := lw_at lw_m5 192 rfl
theorem q1230 : (Jvm.Cond.lays "MemoryTransactionsModel" "MemoryTransactionsModel" "at" "I") ∈ lw_tbl := lw_at lw_m5 193 rfl
theorem q1231 : (Jvm.Cond.soleField "MemoryTransactionsModel" "at") ∈ lw_tbl := lw_at lw_m5 194 rfl
theorem q1232 : (Jvm.Cond.lays "MemoryTransactionsModel" "MemoryTransactionsModel" "token" "I") ∈ lw_tbl := lw_at lw_m5 195 rfl
theorem q1233 : (Jvm.Cond.soleField "MemoryTransactionsModel" "token") ∈ lw_tbl := lw_at lw_m5 196 rfl
theorem q1234 : (Jvm.Cond.lays "MemoryTransactionsModel" "MemoryTransactionsModel" "tokenPlace" "I") ∈ lw_tbl := lw_at lw_m5 197 rfl
theorem q1235 : (Jvm.Cond.soleField "MemoryTransactionsModel" "tokenPlace") ∈ lw_tbl := lw_at lw_m5 198 rfl
theorem q1236 : (Jvm.Cond.lays "MemoryTransactionsModel" "MemoryTransactionsModel" "letter" "I") ∈ lw_tbl := lw_at lw_m5 199 rfl
theorem q1237 : (Jvm.Cond.soleField "MemoryTransactionsModel" "letter") ∈ lw_tbl := lw_at lw_m5 200 rfl
theorem q1238 : (Jvm.Cond.lays "MemoryTransactionsModel" "MemoryTransactionsModel" "number" "J") ∈ lw_tbl := lw_at lw_m5 201 rfl
theorem q1239 : (Jvm.Cond.soleField "MemoryTransactionsModel" "number") ∈ lw_tbl := lw_at lw_m5 202 rfl
theorem q1240 : (Jvm.Cond.lays "MemoryTransactionsModel" "MemoryTransactionsModel" "sign" "I") ∈ lw_tbl := lw_at lw_m5 203 rfl
theorem q1241 : (Jvm.Cond.soleField "MemoryTransactionsModel" "sign") ∈ lw_tbl := lw_at lw_m5 204 rfl
theorem q1242 : (Jvm.Cond.lays "MemoryTransactionsModel" "MemoryTransactionsModel" "bad" "Z") ∈ lw_tbl := lw_at lw_m5 205 rfl
theorem q1243 : (Jvm.Cond.soleField "MemoryTransactionsModel" "bad") ∈ lw_tbl := lw_at lw_m5 206 rfl
theorem q1244 : (Jvm.Cond.lays "MemoryTransactionsModel" "MemoryTransactionsModel" "place" "I") ∈ lw_tbl := lw_at lw_m5 207 rfl
theorem q1245 : (Jvm.Cond.soleField "MemoryTransactionsModel" "place") ∈ lw_tbl := lw_at lw_m5 208 rfl
theorem q1246 : (Jvm.Cond.lays "MemoryTransactionsModel" "MemoryTransactionsModel" "texts" "I") ∈ lw_tbl := lw_at lw_m5 209 rfl
theorem q1247 : (Jvm.Cond.soleField "MemoryTransactionsModel" "texts") ∈ lw_tbl := lw_at lw_m5 210 rfl
theorem q1248 : (Jvm.Cond.laysFinal "MemoryTransactionsModel" "MemoryTransactionsModel" "statementCounts" "[I") ∈ lw_tbl := lw_at lw_m5 211 rfl
theorem q1249 : (Jvm.Cond.soleField "MemoryTransactionsModel" "statementCounts") ∈ lw_tbl := lw_at lw_m5 212 rfl
theorem q1250 : (Jvm.Cond.laysFinal "MemoryTransactionsModel" "MemoryTransactionsModel" "unaryCounts" "[I") ∈ lw_tbl := lw_at lw_m5 213 rfl
theorem q1251 : (Jvm.Cond.soleField "MemoryTransactionsModel" "unaryCounts") ∈ lw_tbl := lw_at lw_m5 214 rfl
theorem q1252 : (Jvm.Cond.laysFinal "MemoryTransactionsModel" "MemoryTransactionsModel" "depths" "[I") ∈ lw_tbl := lw_at lw_m5 215 rfl
theorem q1253 : (Jvm.Cond.soleField "MemoryTransactionsModel" "depths") ∈ lw_tbl := lw_at lw_m5 216 rfl
theorem q1254 : (Jvm.Cond.laysFinal "MemoryTransactionsModel" "MemoryTransactionsModel" "firstStatements" "[I") ∈ lw_tbl := lw_at lw_m5 217 rfl
theorem q1255 : (Jvm.Cond.soleField "MemoryTransactionsModel" "firstStatements") ∈ lw_tbl := lw_at lw_m5 218 rfl
theorem q1256 : (Jvm.Cond.laysFinal "MemoryTransactionsModel" "MemoryTransactionsModel" "actCounts" "[I") ∈ lw_tbl := lw_at lw_m5 219 rfl
theorem q1257 : (Jvm.Cond.soleField "MemoryTransactionsModel" "actCounts") ∈ lw_tbl := lw_at lw_m5 220 rfl
theorem q1258 : (Jvm.Cond.laysFinal "MemoryTransactionsModel" "MemoryTransactionsModel" "kinds" "[I") ∈ lw_tbl := lw_at lw_m5 221 rfl
theorem q1259 : (Jvm.Cond.soleField "MemoryTransactionsModel" "kinds") ∈ lw_tbl := lw_at lw_m5 222 rfl
theorem q1260 : (Jvm.Cond.laysFinal "MemoryTransactionsModel" "MemoryTransactionsModel" "nexts" "[I") ∈ lw_tbl := lw_at lw_m5 223 rfl
theorem q1261 : (Jvm.Cond.soleField "MemoryTransactionsModel" "nexts") ∈ lw_tbl := lw_at lw_m5 224 rfl
theorem q1262 : (Jvm.Cond.laysFinal "MemoryTransactionsModel" "MemoryTransactionsModel" "parents" "[I") ∈ lw_tbl := lw_at lw_m5 225 rfl
theorem q1263 : (Jvm.Cond.soleField "MemoryTransactionsModel" "parents") ∈ lw_tbl := lw_at lw_m5 226 rfl
theorem q1264 : (Jvm.Cond.laysFinal "MemoryTransactionsModel" "MemoryTransactionsModel" "whiches" "[I") ∈ lw_tbl := lw_at lw_m5 227 rfl
theorem q1265 : (Jvm.Cond.soleField "MemoryTransactionsModel" "whiches") ∈ lw_tbl := lw_at lw_m5 228 rfl
theorem q1266 : (Jvm.Cond.laysFinal "MemoryTransactionsModel" "MemoryTransactionsModel" "exps" "[I") ∈ lw_tbl := lw_at lw_m5 229 rfl
theorem q1267 : (Jvm.Cond.soleField "MemoryTransactionsModel" "exps") ∈ lw_tbl := lw_at lw_m5 230 rfl
theorem q1268 : (Jvm.Cond.laysFinal "MemoryTransactionsModel" "MemoryTransactionsModel" "firstBodies" "[I") ∈ lw_tbl := lw_at lw_m5 231 rfl
theorem q1269 : (Jvm.Cond.soleField "MemoryTransactionsModel" "firstBodies") ∈ lw_tbl := lw_at lw_m5 232 rfl
theorem q1270 : (Jvm.Cond.laysFinal "MemoryTransactionsModel" "MemoryTransactionsModel" "secondBodies" "[I") ∈ lw_tbl := lw_at lw_m5 233 rfl
theorem q1271 : (Jvm.Cond.soleField "MemoryTransactionsModel" "secondBodies") ∈ lw_tbl := lw_at lw_m5 234 rfl
theorem q1272 : (Jvm.Cond.laysFinal "MemoryTransactionsModel" "MemoryTransactionsModel" "letters" "[I") ∈ lw_tbl := lw_at lw_m5 235 rfl
theorem q1273 : (Jvm.Cond.soleField "MemoryTransactionsModel" "letters") ∈ lw_tbl := lw_at lw_m5 236 rfl
theorem q1274 : (Jvm.Cond.laysFinal "MemoryTransactionsModel" "MemoryTransactionsModel" "acts" "[I") ∈ lw_tbl := lw_at lw_m5 237 rfl
theorem q1275 : (Jvm.Cond.soleField "MemoryTransactionsModel" "acts") ∈ lw_tbl := lw_at lw_m5 238 rfl
theorem q1276 : (Jvm.Cond.laysFinal "MemoryTransactionsModel" "MemoryTransactionsModel" "actLetters" "[I") ∈ lw_tbl := lw_at lw_m5 239 rfl
theorem q1277 : (Jvm.Cond.soleField "MemoryTransactionsModel" "actLetters") ∈ lw_tbl := lw_at lw_m6 0 rfl
theorem q1278 : (Jvm.Cond.laysFinal "MemoryTransactionsModel" "MemoryTransactionsModel" "actNumbers" "[J") ∈ lw_tbl := lw_at lw_m6 1 rfl
theorem q1279 : (Jvm.Cond.soleField "MemoryTransactionsModel" "actNumbers") ∈ lw_tbl := lw_at lw_m6 2 rfl
theorem q1280 : (Jvm.Cond.lays "MemoryTransactionsModel" "MemoryTransactionsModel" "reading" "I") ∈ lw_tbl := lw_at lw_m6 3 rfl
theorem q1281 : (Jvm.Cond.soleField "MemoryTransactionsModel" "reading") ∈ lw_tbl := lw_at lw_m6 4 rfl
theorem q1282 : (Jvm.Cond.laysFinal "MemoryTransactionsModel" "MemoryTransactionsModel" "pile" "[I") ∈ lw_tbl := lw_at lw_m6 5 rfl
theorem q1283 : (Jvm.Cond.soleField "MemoryTransactionsModel" "pile") ∈ lw_tbl := lw_at lw_m6 6 rfl
theorem q1284 : (Jvm.Cond.lays "MemoryTransactionsModel" "MemoryTransactionsModel" "piled" "I") ∈ lw_tbl := lw_at lw_m6 7 rfl
theorem q1285 : (Jvm.Cond.soleField "MemoryTransactionsModel" "piled") ∈ lw_tbl := lw_at lw_m6 8 rfl
theorem q1286 : (Jvm.Cond.lays "MemoryTransactionsModel" "MemoryTransactionsModel" "opens" "I") ∈ lw_tbl := lw_at lw_m6 9 rfl
theorem q1287 : (Jvm.Cond.soleField "MemoryTransactionsModel" "opens") ∈ lw_tbl := lw_at lw_m6 10 rfl
theorem q1288 : (Jvm.Cond.laysFinal "MemoryTransactionsModel" "MemoryTransactionsModel" "compared" "[Z") ∈ lw_tbl := lw_at lw_m6 11 rfl
theorem q1289 : (Jvm.Cond.soleField "MemoryTransactionsModel" "compared") ∈ lw_tbl := lw_at lw_m6 12 rfl
theorem q1290 : (Jvm.Cond.lays "MemoryTransactionsModel" "MemoryTransactionsModel" "level" "I") ∈ lw_tbl := lw_at lw_m6 13 rfl
theorem q1291 : (Jvm.Cond.soleField "MemoryTransactionsModel" "level") ∈ lw_tbl := lw_at lw_m6 14 rfl
theorem q1292 : (Jvm.Cond.laysFinal "MemoryTransactionsModel" "MemoryTransactionsModel" "openOwners" "[I") ∈ lw_tbl := lw_at lw_m6 15 rfl
theorem q1293 : (Jvm.Cond.soleField "MemoryTransactionsModel" "openOwners") ∈ lw_tbl := lw_at lw_m6 16 rfl
theorem q1294 : (Jvm.Cond.laysFinal "MemoryTransactionsModel" "MemoryTransactionsModel" "openWhiches" "[I") ∈ lw_tbl := lw_at lw_m6 17 rfl
theorem q1295 : (Jvm.Cond.soleField "MemoryTransactionsModel" "openWhiches") ∈ lw_tbl := lw_at lw_m6 18 rfl
theorem q1296 : (Jvm.Cond.laysFinal "MemoryTransactionsModel" "MemoryTransactionsModel" "openLasts" "[I") ∈ lw_tbl := lw_at lw_m6 19 rfl
theorem q1297 : (Jvm.Cond.soleField "MemoryTransactionsModel" "openLasts") ∈ lw_tbl := lw_at lw_m6 20 rfl
theorem q1298 : (Jvm.Cond.lays "MemoryTransactionsModel" "MemoryTransactionsModel" "within" "I") ∈ lw_tbl := lw_at lw_m6 21 rfl
theorem q1299 : (Jvm.Cond.soleField "MemoryTransactionsModel" "within") ∈ lw_tbl := lw_at lw_m6 22 rfl
theorem q1300 : (Jvm.Cond.laysFinal "MemoryTransactionsModel" "MemoryTransactionsModel" "cells" "[J") ∈ lw_tbl := lw_at lw_m6 23 rfl
theorem q1301 : (Jvm.Cond.soleField "MemoryTransactionsModel" "cells") ∈ lw_tbl := lw_at lw_m6 24 rfl
theorem q1302 : (Jvm.Cond.laysFinal "MemoryTransactionsModel" "MemoryTransactionsModel" "versions" "[I") ∈ lw_tbl := lw_at lw_m6 25 rfl
theorem q1303 : (Jvm.Cond.soleField "MemoryTransactionsModel" "versions") ∈ lw_tbl := lw_at lw_m6 26 rfl
theorem q1304 : (Jvm.Cond.laysFinal "MemoryTransactionsModel" "MemoryTransactionsModel" "ruleCounts" "[I") ∈ lw_tbl := lw_at lw_m6 27 rfl
theorem q1305 : (Jvm.Cond.soleField "MemoryTransactionsModel" "ruleCounts") ∈ lw_tbl := lw_at lw_m6 28 rfl
theorem q1306 : (Jvm.Cond.laysFinal "MemoryTransactionsModel" "MemoryTransactionsModel" "ruleExps" "[I") ∈ lw_tbl := lw_at lw_m6 29 rfl
theorem q1307 : (Jvm.Cond.soleField "MemoryTransactionsModel" "ruleExps") ∈ lw_tbl := lw_at lw_m6 30 rfl
theorem q1308 : (Jvm.Cond.lays "MemoryTransactionsModel" "MemoryTransactionsModel" "world" "I") ∈ lw_tbl := lw_at lw_m6 31 rfl
theorem q1309 : (Jvm.Cond.soleField "MemoryTransactionsModel" "world") ∈ lw_tbl := lw_at lw_m6 32 rfl
theorem q1310 : (Jvm.Cond.laysFinal "MemoryTransactionsModel" "MemoryTransactionsModel" "queues" "[I") ∈ lw_tbl := lw_at lw_m6 33 rfl
theorem q1311 : (Jvm.Cond.soleField "MemoryTransactionsModel" "queues") ∈ lw_tbl := lw_at lw_m6 34 rfl
theorem q1312 : (Jvm.Cond.laysFinal "MemoryTransactionsModel" "MemoryTransactionsModel" "queueCounts" "[I") ∈ lw_tbl := lw_at lw_m6 35 rfl
theorem q1313 : (Jvm.Cond.soleField "MemoryTransactionsModel" "queueCounts") ∈ lw_tbl := lw_at lw_m6 36 rfl
theorem q1314 : (Jvm.Cond.laysFinal "MemoryTransactionsModel" "MemoryTransactionsModel" "states" "[I") ∈ lw_tbl := lw_at lw_m6 37 rfl
theorem q1315 : (Jvm.Cond.soleField "MemoryTransactionsModel" "states") ∈ lw_tbl := lw_at lw_m6 38 rfl
theorem q1316 : (Jvm.Cond.laysFinal "MemoryTransactionsModel" "MemoryTransactionsModel" "steps" "[I") ∈ lw_tbl := lw_at lw_m6 39 rfl
theorem q1317 : (Jvm.Cond.soleField "MemoryTransactionsModel" "steps") ∈ lw_tbl := lw_at lw_m6 40 rfl
theorem q1318 : (Jvm.Cond.laysFinal "MemoryTransactionsModel" "MemoryTransactionsModel" "cuts" "[I") ∈ lw_tbl := lw_at lw_m6 41 rfl
theorem q1319 : (Jvm.Cond.soleField "MemoryTransactionsModel" "cuts") ∈ lw_tbl := lw_at lw_m6 42 rfl
theorem q1320 : (Jvm.Cond.laysFinal "MemoryTransactionsModel" "MemoryTransactionsModel" "urgent" "[Z") ∈ lw_tbl := lw_at lw_m6 43 rfl
theorem q1321 : (Jvm.Cond.soleField "MemoryTransactionsModel" "urgent") ∈ lw_tbl := lw_at lw_m6 44 rfl
theorem q1322 : (Jvm.Cond.laysFinal "MemoryTransactionsModel" "MemoryTransactionsModel" "readBits" "[I") ∈ lw_tbl := lw_at lw_m6 45 rfl
theorem q1323 : (Jvm.Cond.soleField "MemoryTransactionsModel" "readBits") ∈ lw_tbl := lw_at lw_m6 46 rfl
theorem q1324 : (Jvm.Cond.laysFinal "MemoryTransactionsModel" "MemoryTransactionsModel" "readValues" "[J") ∈ lw_tbl := lw_at lw_m6 47 rfl
theorem q1325 : (Jvm.Cond.soleField "MemoryTransactionsModel" "readValues") ∈ lw_tbl := lw_at lw_m6 48 rfl
theorem q1326 : (Jvm.Cond.laysFinal "MemoryTransactionsModel" "MemoryTransactionsModel" "readVersions" "[I") ∈ lw_tbl := lw_at lw_m6 49 rfl
theorem q1327 : (Jvm.Cond.soleField "MemoryTransactionsModel" "readVersions") ∈ lw_tbl := lw_at lw_m6 50 rfl
theorem q1328 : (Jvm.Cond.lays "MemoryTransactionsModel" "MemoryTransactionsModel" "bits" "I") ∈ lw_tbl := lw_at lw_m6 51 rfl
theorem q1329 : (Jvm.Cond.soleField "MemoryTransactionsModel" "bits") ∈ lw_tbl := lw_at lw_m6 52 rfl
theorem q1330 : (Jvm.Cond.laysFinal "MemoryTransactionsModel" "MemoryTransactionsModel" "seen" "[J") ∈ lw_tbl := lw_at lw_m6 53 rfl
theorem q1331 : (Jvm.Cond.soleField "MemoryTransactionsModel" "seen") ∈ lw_tbl := lw_at lw_m6 54 rfl
theorem q1332 : (Jvm.Cond.laysFinal "MemoryTransactionsModel" "MemoryTransactionsModel" "seenVersions" "[I") ∈ lw_tbl := lw_at lw_m6 55 rfl
theorem q1333 : (Jvm.Cond.soleField "MemoryTransactionsModel" "seenVersions") ∈ lw_tbl := lw_at lw_m6 56 rfl
theorem q1334 : (Jvm.Cond.lays "MemoryTransactionsModel" "MemoryTransactionsModel" "writtenBits" "I") ∈ lw_tbl := lw_at lw_m6 57 rfl
theorem q1335 : (Jvm.Cond.soleField "MemoryTransactionsModel" "writtenBits") ∈ lw_tbl := lw_at lw_m6 58 rfl
theorem q1336 : (Jvm.Cond.laysFinal "MemoryTransactionsModel" "MemoryTransactionsModel" "written" "[J") ∈ lw_tbl := lw_at lw_m6 59 rfl
theorem q1337 : (Jvm.Cond.soleField "MemoryTransactionsModel" "written") ∈ lw_tbl := lw_at lw_m6 60 rfl
theorem q1338 : (Jvm.Cond.laysFinal "MemoryTransactionsModel" "MemoryTransactionsModel" "locals" "[J") ∈ lw_tbl := lw_at lw_m6 61 rfl
theorem q1339 : (Jvm.Cond.soleField "MemoryTransactionsModel" "locals") ∈ lw_tbl := lw_at lw_m6 62 rfl
theorem q1340 : (Jvm.Cond.lays "MemoryTransactionsModel" "MemoryTransactionsModel" "alwaysCount" "I") ∈ lw_tbl := lw_at lw_m6 63 rfl
theorem q1341 : (Jvm.Cond.soleField "MemoryTransactionsModel" "alwaysCount") ∈ lw_tbl := lw_at lw_m6 64 rfl
theorem q1342 : (Jvm.Cond.laysFinal "MemoryTransactionsModel" "MemoryTransactionsModel" "always" "[I") ∈ lw_tbl := lw_at lw_m6 65 rfl
theorem q1343 : (Jvm.Cond.soleField "MemoryTransactionsModel" "always") ∈ lw_tbl := lw_at lw_m6 66 rfl
theorem q1344 : (Jvm.Cond.lays "MemoryTransactionsModel" "MemoryTransactionsModel" "pos" "I") ∈ lw_tbl := lw_at lw_m6 67 rfl
theorem q1345 : (Jvm.Cond.soleField "MemoryTransactionsModel" "pos") ∈ lw_tbl := lw_at lw_m6 68 rfl
theorem q1346 : (Jvm.Cond.laysFinal "MemoryTransactionsModel" "MemoryTransactionsModel" "keptBits" "[I") ∈ lw_tbl := lw_at lw_m6 69 rfl
theorem q1347 : (Jvm.Cond.soleField "MemoryTransactionsModel" "keptBits") ∈ lw_tbl := lw_at lw_m6 70 rfl
theorem q1348 : (Jvm.Cond.laysFinal "MemoryTransactionsModel" "MemoryTransactionsModel" "keptWritten" "[J") ∈ lw_tbl := lw_at lw_m6 71 rfl
theorem q1349 : (Jvm.Cond.soleField "MemoryTransactionsModel" "keptWritten") ∈ lw_tbl := lw_at lw_m6 72 rfl
theorem q1350 : (Jvm.Cond.laysFinal "MemoryTransactionsModel" "MemoryTransactionsModel" "keptLocals" "[J") ∈ lw_tbl := lw_at lw_m6 73 rfl
theorem q1351 : (Jvm.Cond.soleField "MemoryTransactionsModel" "keptLocals") ∈ lw_tbl := lw_at lw_m6 74 rfl
theorem q1352 : (Jvm.Cond.laysFinal "MemoryTransactionsModel" "MemoryTransactionsModel" "keptAlways" "[I") ∈ lw_tbl := lw_at lw_m6 75 rfl
theorem q1353 : (Jvm.Cond.soleField "MemoryTransactionsModel" "keptAlways") ∈ lw_tbl := lw_at lw_m6 76 rfl
theorem q1354 : (Jvm.Cond.lays "MemoryTransactionsModel" "MemoryTransactionsModel" "ended" "I") ∈ lw_tbl := lw_at lw_m6 77 rfl
theorem q1355 : (Jvm.Cond.soleField "MemoryTransactionsModel" "ended") ∈ lw_tbl := lw_at lw_m6 78 rfl
theorem q1356 : (Jvm.Cond.lays "MemoryTransactionsModel" "MemoryTransactionsModel" "thrownValue" "J") ∈ lw_tbl := lw_at lw_m6 79 rfl
theorem q1357 : (Jvm.Cond.soleField "MemoryTransactionsModel" "thrownValue") ∈ lw_tbl := lw_at lw_m6 80 rfl
theorem q1358 : (Jvm.Cond.laysFinal "MemoryTransactionsModel" "MemoryTransactionsModel" "stack" "[J") ∈ lw_tbl := lw_at lw_m6 81 rfl
theorem q1359 : (Jvm.Cond.soleField "MemoryTransactionsModel" "stack") ∈ lw_tbl := lw_at lw_m6 82 rfl
theorem q1360 : (Jvm.Cond.laysFinal "MemoryTransactionsModel" "MemoryTransactionsModel" "would" "[J") ∈ lw_tbl := lw_at lw_m6 83 rfl
theorem q1361 : (Jvm.Cond.soleField "MemoryTransactionsModel" "would") ∈ lw_tbl := lw_at lw_m6 84 rfl
theorem q1362 : (Jvm.Cond.lays "MemoryTransactionsModel" "MemoryTransactionsModel" "rows" "I") ∈ lw_tbl := lw_at lw_m6 85 rfl
theorem q1363 : (Jvm.Cond.soleField "MemoryTransactionsModel" "rows") ∈ lw_tbl := lw_at lw_m6 86 rfl
theorem q1364 : (Jvm.Cond.laysFinal "MemoryTransactionsModel" "MemoryTransactionsModel" "rowKinds" "[I") ∈ lw_tbl := lw_at lw_m6 87 rfl
theorem q1365 : (Jvm.Cond.soleField "MemoryTransactionsModel" "rowKinds") ∈ lw_tbl := lw_at lw_m6 88 rfl
theorem q1366 : (Jvm.Cond.laysFinal "MemoryTransactionsModel" "MemoryTransactionsModel" "rowClients" "[I") ∈ lw_tbl := lw_at lw_m6 89 rfl
theorem q1367 : (Jvm.Cond.soleField "MemoryTransactionsModel" "rowClients") ∈ lw_tbl := lw_at lw_m6 90 rfl
theorem q1368 : (Jvm.Cond.laysFinal "MemoryTransactionsModel" "MemoryTransactionsModel" "rowNumbers" "[I") ∈ lw_tbl := lw_at lw_m6 91 rfl
theorem q1369 : (Jvm.Cond.soleField "MemoryTransactionsModel" "rowNumbers") ∈ lw_tbl := lw_at lw_m6 92 rfl
theorem q1370 : (Jvm.Cond.laysFinal "MemoryTransactionsModel" "MemoryTransactionsModel" "rowSteps" "[I") ∈ lw_tbl := lw_at lw_m6 93 rfl
theorem q1371 : (Jvm.Cond.soleField "MemoryTransactionsModel" "rowSteps") ∈ lw_tbl := lw_at lw_m6 94 rfl
theorem q1372 : (Jvm.Cond.laysFinal "MemoryTransactionsModel" "MemoryTransactionsModel" "rowCuts" "[I") ∈ lw_tbl := lw_at lw_m6 95 rfl
theorem q1373 : (Jvm.Cond.soleField "MemoryTransactionsModel" "rowCuts") ∈ lw_tbl := lw_at lw_m6 96 rfl
theorem q1374 : (Jvm.Cond.laysFinal "MemoryTransactionsModel" "MemoryTransactionsModel" "rowValues" "[J") ∈ lw_tbl := lw_at lw_m6 97 rfl
theorem q1375 : (Jvm.Cond.soleField "MemoryTransactionsModel" "rowValues") ∈ lw_tbl := lw_at lw_m6 98 rfl
theorem q1376 : (Jvm.Cond.superclass "MemoryTransactionsModel" "java/lang/Object") ∈ lw_tbl := lw_at lw_m6 99 rfl
theorem q1379 : (Jvm.Cond.instanceMethod ({ cls := "MemoryTransactionsModel", name := "feed", desc := "(IIIII)I" } : Jvm.MethodName)) ∈ lw_tbl := lw_at lw_m6 102 rfl
theorem q1380 : (Jvm.Cond.selects "MemoryTransactionsModel" ({ cls := "MemoryTransactionsModel", name := "feed", desc := "(IIIII)I" } : Jvm.MethodName) ({ cls := "MemoryTransactionsModel", name := "feed", desc := "(IIIII)I" } : Jvm.MethodName)) ∈ lw_tbl := lw_at lw_m6 103 rfl
theorem q1381 : (Jvm.Cond.code ({ cls := "MemoryTransactionsModel", name := "feed", desc := "(IIIII)I" } : Jvm.MethodName) prog_23_method_24_code (9 : Nat) (Option.some Jvm.ClassFile.FieldType.int)) ∈ lw_tbl := lw_at lw_m6 104 rfl
theorem q1383 : (Jvm.Cond.instanceMethod ({ cls := "MemoryTransactionsModel", name := "end", desc := "(I)I" } : Jvm.MethodName)) ∈ lw_tbl := lw_at lw_m6 106 rfl
theorem q1384 : (Jvm.Cond.selects "MemoryTransactionsModel" ({ cls := "MemoryTransactionsModel", name := "end", desc := "(I)I" } : Jvm.MethodName) ({ cls := "MemoryTransactionsModel", name := "end", desc := "(I)I" } : Jvm.MethodName)) ∈ lw_tbl := lw_at lw_m6 107 rfl
theorem q1385 : (Jvm.Cond.code ({ cls := "MemoryTransactionsModel", name := "end", desc := "(I)I" } : Jvm.MethodName) prog_23_method_25_code (2 : Nat) (Option.some Jvm.ClassFile.FieldType.int)) ∈ lw_tbl := lw_at lw_m6 108 rfl
theorem q1387 : (Jvm.Cond.instanceMethod ({ cls := "MemoryTransactionsModel", name := "text", desc := "()I" } : Jvm.MethodName)) ∈ lw_tbl := lw_at lw_m6 110 rfl
theorem q1388 : (Jvm.Cond.selects "MemoryTransactionsModel" ({ cls := "MemoryTransactionsModel", name := "text", desc := "()I" } : Jvm.MethodName) ({ cls := "MemoryTransactionsModel", name := "text", desc := "()I" } : Jvm.MethodName)) ∈ lw_tbl := lw_at lw_m6 111 rfl
theorem q1389 : (Jvm.Cond.code ({ cls := "MemoryTransactionsModel", name := "text", desc := "()I" } : Jvm.MethodName) prog_23_method_26_code (1 : Nat) (Option.some Jvm.ClassFile.FieldType.int)) ∈ lw_tbl := lw_at lw_m6 112 rfl
theorem q1390 : (Jvm.Cond.methodLink "MemoryTransactionsModel" (313 : Nat) ({ cls := "MemoryTransactionsModel", name := "readText", desc := "()V" } : Jvm.MethodName)) ∈ lw_tbl := lw_at lw_m6 113 rfl
theorem q1391 : (Jvm.Cond.privateMethod ({ cls := "MemoryTransactionsModel", name := "readText", desc := "()V" } : Jvm.MethodName)) ∈ lw_tbl := lw_at lw_m6 114 rfl
theorem q1392 : (Jvm.Cond.instanceMethod ({ cls := "MemoryTransactionsModel", name := "readText", desc := "()V" } : Jvm.MethodName)) ∈ lw_tbl := lw_at lw_m6 115 rfl
theorem q1393 : (Jvm.Cond.code ({ cls := "MemoryTransactionsModel", name := "readText", desc := "()V" } : Jvm.MethodName) prog_23_method_19_code (1 : Nat) (Option.none : Option Jvm.ClassFile.FieldType)) ∈ lw_tbl := lw_at lw_m6 116 rfl
theorem q1394 : (Jvm.Cond.methodLink "MemoryTransactionsModel" (250 : Nat) ({ cls := "MemoryTransactionsModel", name := "next", desc := "()V" } : Jvm.MethodName)) ∈ lw_tbl := lw_at lw_m6 117 rfl
theorem q1395 : (Jvm.Cond.privateMethod ({ cls := "MemoryTransactionsModel", name := "next", desc := "()V" } : Jvm.MethodName)) ∈ lw_tbl := lw_at lw_m6 118 rfl
theorem q1396 : (Jvm.Cond.instanceMethod ({ cls := "MemoryTransactionsModel", name := "next", desc := "()V" } : Jvm.MethodName)) ∈ lw_tbl := lw_at lw_m6 119 rfl
theorem q1397 : (Jvm.Cond.code ({ cls := "MemoryTransactionsModel", name := "next", desc := "()V" } : Jvm.MethodName) prog_23_method_8_code (6 : Nat) (Option.none : Option Jvm.ClassFile.FieldType)) ∈ lw_tbl := lw_at lw_m6 120 rfl
theorem q1398 : (Jvm.Cond.methodLink "MemoryTransactionsModel" (202 : Nat) ({ cls := "MemoryTransactionsModel", name := "byteAt", desc := "(I)I" } : Jvm.MethodName)) ∈ lw_tbl := lw_at lw_m6 121 rfl
theorem q1399 : (Jvm.Cond.privateMethod ({ cls := "MemoryTransactionsModel", name := "byteAt", desc := "(I)I" } : Jvm.MethodName)) ∈ lw_tbl := lw_at lw_m6 122 rfl
theorem q1400 : (Jvm.Cond.instanceMethod ({ cls := "MemoryTransactionsModel", name := "byteAt", desc := "(I)I" } : Jvm.MethodName)) ∈ lw_tbl := lw_at lw_m6 123 rfl
theorem q1401 : (Jvm.Cond.code ({ cls := "MemoryTransactionsModel", name := "byteAt", desc := "(I)I" } : Jvm.MethodName) prog_23_method_3_code (2 : Nat) (Option.some Jvm.ClassFile.FieldType.int)) ∈ lw_tbl := lw_at lw_m6 124 rfl
theorem q1402 : (Jvm.Cond.methodLink "MemoryTransactionsModel" (212 : Nat) ({ cls := "MemoryTransactionsModel", name := "isSmall", desc := "(I)Z" } : Jvm.MethodName)) ∈ lw_tbl := lw_at lw_m6 125 rfl
theorem q1403 : (Jvm.Cond.static ({ cls := "MemoryTransactionsModel", name := "isSmall", desc := "(I)Z" } : Jvm.MethodName)) ∈ lw_tbl := lw_at lw_m6 126 rfl
theorem q1404 : (Jvm.Cond.code ({ cls := "MemoryTransactionsModel", name := "isSmall", desc := "(I)Z" } : Jvm.MethodName) prog_23_method_4_code (1 : Nat) (Option.some Jvm.ClassFile.FieldType.boolean)) ∈ lw_tbl := lw_at lw_m6 127 rfl
theorem q1405 : (Jvm.Cond.methodLink "MemoryTransactionsModel" (219 : Nat) ({ cls := "MemoryTransactionsModel", name := "wordOf", desc := "(J)I" } : Jvm.MethodName)) ∈ lw_tbl := lw_at lw_m6 128 rfl
theorem q1406 : (Jvm.Cond.static ({ cls := "MemoryTransactionsModel", name := "wordOf", desc := "(J)I" } : Jvm.MethodName)) ∈ lw_tbl := lw_at lw_m6 129 rfl
theorem q1407 : (Jvm.Cond.code ({ cls := "MemoryTransactionsModel", name := "wordOf", desc := "(J)I" } : Jvm.MethodName) prog_23_method_7_code (2 : Nat) (Option.some Jvm.ClassFile.FieldType.int)) ∈ lw_tbl := lw_at lw_m6 130 rfl
theorem q1408 : (Jvm.Cond.constantLong "MemoryTransactionsModel" (179 : Nat) (26982 : Int64)) ∈ lw_tbl := lw_at lw_m6 131 rfl
theorem q1409 : (Jvm.Cond.constantLong "MemoryTransactionsModel" (181 : Nat) (1701606245 : Int64)) ∈ lw_tbl := lw_at lw_m6 132 rfl
theorem q1410 : (Jvm.Cond.constantLong "MemoryTransactionsModel" (183 : Nat) (512852847717 : Int64)) ∈ lw_tbl := lw_at lw_m6 133 rfl
theorem q1411 : (Jvm.Cond.constantLong "MemoryTransactionsModel" (185 : Nat) (491328402041 : Int64)) ∈ lw_tbl := lw_at lw_m6 134 rfl
theorem q1412 : (Jvm.Cond.constantLong "MemoryTransactionsModel" (187 : Nat) (499968536439 : Int64)) ∈ lw_tbl := lw_at lw_m6 135 rfl
theorem q1413 : (Jvm.Cond.constantLong "MemoryTransactionsModel" (189 : Nat) (111503598970226 : Int64)) ∈ lw_tbl := lw_at lw_m6 136 rfl
theorem q1414 : (Jvm.Cond.constantLong "MemoryTransactionsModel" (191 : Nat) (28530 : Int64)) ∈ lw_tbl := lw_at lw_m6 137 rfl
theorem q1415 : (Jvm.Cond.constantLong "MemoryTransactionsModel" (193 : Nat) (7631481 : Int64)) ∈ lw_tbl := lw_at lw_m6 138 rfl
theorem q1416 : (Jvm.Cond.constantLong "MemoryTransactionsModel" (195 : Nat) (426836779880 : Int64)) ∈ lw_tbl := lw_at lw_m6 139 rfl
theorem q1417 : (Jvm.Cond.constantLong "MemoryTransactionsModel" (197 : Nat) (107118487239027 : Int64)) ∈ lw_tbl := lw_at lw_m6 140 rfl
theorem q1418 : (Jvm.Cond.methodLink "MemoryTransactionsModel" (223 : Nat) ({ cls := "MemoryTransactionsModel", name := "isFigure", desc := "(I)Z" } : Jvm.MethodName)) ∈ lw_tbl := lw_at lw_m6 141 rfl
theorem q1419 : (Jvm.Cond.static ({ cls := "MemoryTransactionsModel", name := "isFigure", desc := "(I)Z" } : Jvm.MethodName)) ∈ lw_tbl := lw_at lw_m6 142 rfl
theorem q1420 : (Jvm.Cond.code ({ cls := "MemoryTransactionsModel", name := "isFigure", desc := "(I)Z" } : Jvm.MethodName) prog_23_method_5_code (1 : Nat) (Option.some Jvm.ClassFile.FieldType.boolean)) ∈ lw_tbl := lw_at lw_m6 143 rfl
theorem q1421 : (Jvm.Cond.constantLong "MemoryTransactionsModel" (230 : Nat) (10 : Int64)) ∈ lw_tbl := lw_at lw_m6 144 rfl
theorem q1422 : (Jvm.Cond.constantLong "MemoryTransactionsModel" (232 : Nat) (48 : Int64)) ∈ lw_tbl := lw_at lw_m6 145 rfl
theorem q1423 : (Jvm.Cond.methodLink "MemoryTransactionsModel" (237 : Nat) ({ cls := "MemoryTransactionsModel", name := "isSignByte", desc := "(I)Z" } : Jvm.MethodName)) ∈ lw_tbl := lw_at lw_m6 146 rfl
theorem q1424 : (Jvm.Cond.static ({ cls := "MemoryTransactionsModel", name := "isSignByte", desc := "(I)Z" } : Jvm.MethodName)) ∈ lw_tbl := lw_at lw_m6 147 rfl
theorem q1425 : (Jvm.Cond.code ({ cls := "MemoryTransactionsModel", name := "isSignByte", desc := "(I)Z" } : Jvm.MethodName) prog_23_method_6_code (1 : Nat) (Option.some Jvm.ClassFile.FieldType.boolean)) ∈ lw_tbl := lw_at lw_m6 148 rfl
theorem q1426 : (Jvm.Cond.methodLink "MemoryTransactionsModel" (244 : Nat) ({ cls := "MemoryTransactionsModel", name := "isSign", desc := "(I)Z" } : Jvm.MethodName)) ∈ lw_tbl := lw_at lw_m6 149 rfl
theorem q1427 : (Jvm.Cond.privateMethod ({ cls := "MemoryTransactionsModel", name := "isSign", desc := "(I)Z" } : Jvm.MethodName)) ∈ lw_tbl := lw_at lw_m6 150 rfl
theorem q1428 : (Jvm.Cond.instanceMethod ({ cls := "MemoryTransactionsModel", name := "isSign", desc := "(I)Z" } : Jvm.MethodName)) ∈ lw_tbl := lw_at lw_m6 151 rfl
theorem q1429 : (Jvm.Cond.code ({ cls := "MemoryTransactionsModel", name := "isSign", desc := "(I)Z" } : Jvm.MethodName) prog_23_method_10_code (2 : Nat) (Option.some Jvm.ClassFile.FieldType.boolean)) ∈ lw_tbl := lw_at lw_m6 152 rfl
theorem q1430 : (Jvm.Cond.methodLink "MemoryTransactionsModel" (247 : Nat) ({ cls := "MemoryTransactionsModel", name := "misplaced", desc := "()V" } : Jvm.MethodName)) ∈ lw_tbl := lw_at lw_m6 153 rfl
theorem q1431 : (Jvm.Cond.privateMethod ({ cls := "MemoryTransactionsModel", name := "misplaced", desc := "()V" } : Jvm.MethodName)) ∈ lw_tbl := lw_at lw_m6 154 rfl
theorem q1432 : (Jvm.Cond.instanceMethod ({ cls := "MemoryTransactionsModel", name := "misplaced", desc := "()V" } : Jvm.MethodName)) ∈ lw_tbl := lw_at lw_m6 155 rfl
theorem q1433 : (Jvm.Cond.code ({ cls := "MemoryTransactionsModel", name := "misplaced", desc := "()V" } : Jvm.MethodName) prog_23_method_9_code (1 : Nat) (Option.none : Option Jvm.ClassFile.FieldType)) ∈ lw_tbl := lw_at lw_m6 156 rfl
theorem q1434 : (Jvm.Cond.methodLink "MemoryTransactionsModel" (286 : Nat) ({ cls := "MemoryTransactionsModel", name := "closeBody", desc := "()V" } : Jvm.MethodName)) ∈ lw_tbl := lw_at lw_m6 157 rfl
theorem q1435 : (Jvm.Cond.privateMethod ({ cls := "MemoryTransactionsModel", name := "closeBody", desc := "()V" } : Jvm.MethodName)) ∈ lw_tbl := lw_at lw_m6 158 rfl
theorem q1436 : (Jvm.Cond.instanceMethod ({ cls := "MemoryTransactionsModel", name := "closeBody", desc := "()V" } : Jvm.MethodName)) ∈ lw_tbl := lw_at lw_m6 159 rfl
theorem q1437 : (Jvm.Cond.code ({ cls := "MemoryTransactionsModel", name := "closeBody", desc := "()V" } : Jvm.MethodName) prog_23_method_20_code (3 : Nat) (Option.none : Option Jvm.ClassFile.FieldType)) ∈ lw_tbl := lw_at lw_m6 160 rfl
theorem q1438 : (Jvm.Cond.methodLink "MemoryTransactionsModel" (292 : Nat) ({ cls := "MemoryTransactionsModel", name := "openBody", desc := "(II)V" } : Jvm.MethodName)) ∈ lw_tbl := lw_at lw_m6 161 rfl
theorem q1439 : (Jvm.Cond.privateMethod ({ cls := "MemoryTransactionsModel", name := "openBody", desc := "(II)V" } : Jvm.MethodName)) ∈ lw_tbl := lw_at lw_m6 162 rfl
theorem q1440 : (Jvm.Cond.instanceMethod ({ cls := "MemoryTransactionsModel", name := "openBody", desc := "(II)V" } : Jvm.MethodName)) ∈ lw_tbl := lw_at lw_m6 163 rfl
theorem q1441 : (Jvm.Cond.code ({ cls := "MemoryTransactionsModel", name := "openBody", desc := "(II)V" } : Jvm.MethodName) prog_23_method_18_code (3 : Nat) (Option.none : Option Jvm.ClassFile.FieldType)) ∈ lw_tbl := lw_at lw_m6 164 rfl
theorem q1442 : (Jvm.Cond.methodLink "MemoryTransactionsModel" (296 : Nat) ({ cls := "MemoryTransactionsModel", name := "takeWord", desc := "(I)V" } : Jvm.MethodName)) ∈ lw_tbl := lw_at lw_m6 165 rfl
theorem q1443 : (Jvm.Cond.privateMethod ({ cls := "MemoryTransactionsModel", name := "takeWord", desc := "(I)V" } : Jvm.MethodName)) ∈ lw_tbl := lw_at lw_m6 166 rfl
theorem q1444 : (Jvm.Cond.instanceMethod ({ cls := "MemoryTransactionsModel", name := "takeWord", desc := "(I)V" } : Jvm.MethodName)) ∈ lw_tbl := lw_at lw_m6 167 rfl
theorem q1445 : (Jvm.Cond.code ({ cls := "MemoryTransactionsModel", name := "takeWord", desc := "(I)V" } : Jvm.MethodName) prog_23_method_21_code (2 : Nat) (Option.none : Option Jvm.ClassFile.FieldType)) ∈ lw_tbl := lw_at lw_m6 168 rfl
theorem q1446 : (Jvm.Cond.methodLink "MemoryTransactionsModel" (289 : Nat) ({ cls := "MemoryTransactionsModel", name := "readStatement", desc := "()V" } : Jvm.MethodName)) ∈ lw_tbl := lw_at lw_m6 169 rfl
theorem q1447 : (Jvm.Cond.privateMethod ({ cls := "MemoryTransactionsModel", name := "readStatement", desc := "()V" } : Jvm.MethodName)) ∈ lw_tbl := lw_at lw_m6 170 rfl
theorem q1448 : (Jvm.Cond.instanceMethod ({ cls := "MemoryTransactionsModel", name := "readStatement", desc := "()V" } : Jvm.MethodName)) ∈ lw_tbl := lw_at lw_m6 171 rfl
theorem q1449 : (Jvm.Cond.code ({ cls := "MemoryTransactionsModel", name := "readStatement", desc := "()V" } : Jvm.MethodName) prog_23_method_23_code (4 : Nat) (Option.none : Option Jvm.ClassFile.FieldType)) ∈ lw_tbl := lw_at lw_m6 172 rfl
theorem q1450 : (Jvm.Cond.methodLink "MemoryTransactionsModel" (299 : Nat) ({ cls := "MemoryTransactionsModel", name := "newStatement", desc := "()I" } : Jvm.MethodName)) ∈ lw_tbl := lw_at lw_m6 173 rfl
theorem q1451 : (Jvm.Cond.privateMethod ({ cls := "MemoryTransactionsModel", name := "newStatement", desc := "()I" } : Jvm.MethodName)) ∈ lw_tbl := lw_at lw_m6 174 rfl
theorem q1452 : (Jvm.Cond.instanceMethod ({ cls := "MemoryTransactionsModel", name := "newStatement", desc := "()I" } : Jvm.MethodName)) ∈ lw_tbl := lw_at lw_m6 175 rfl
theorem q1453 : (Jvm.Cond.code ({ cls := "MemoryTransactionsModel", name := "newStatement", desc := "()I" } : Jvm.MethodName) prog_23_method_22_code (4 : Nat) (Option.some Jvm.ClassFile.FieldType.int)) ∈ lw_tbl := lw_at lw_m6 176 rfl
theorem q1454 : (Jvm.Cond.methodLink "MemoryTransactionsModel" (303 : Nat) ({ cls := "MemoryTransactionsModel", name := "take", desc := "(I)V" } : Jvm.MethodName)) ∈ lw_tbl := lw_at lw_m6 177 rfl
theorem q1455 : (Jvm.Cond.privateMethod ({ cls := "MemoryTransactionsModel", name := "take", desc := "(I)V" } : Jvm.MethodName)) ∈ lw_tbl := lw_at lw_m6 178 rfl
theorem q1456 : (Jvm.Cond.instanceMethod ({ cls := "MemoryTransactionsModel", name := "take", desc := "(I)V" } : Jvm.MethodName)) ∈ lw_tbl := lw_at lw_m6 179 rfl
theorem q1457 : (Jvm.Cond.code ({ cls := "MemoryTransactionsModel", name := "take", desc := "(I)V" } : Jvm.MethodName) prog_23_method_11_code (2 : Nat) (Option.none : Option Jvm.ClassFile.FieldType)) ∈ lw_tbl := lw_at lw_m6 180 rfl
theorem q1458 : (Jvm.Cond.methodLink "MemoryTransactionsModel" (306 : Nat) ({ cls := "MemoryTransactionsModel", name := "exp", desc := "(Z)I" } : Jvm.MethodName)) ∈ lw_tbl := lw_at lw_m6 181 rfl
theorem q1459 : (Jvm.Cond.privateMethod ({ cls := "MemoryTransactionsModel", name := "exp", desc := "(Z)I" } : Jvm.MethodName)) ∈ lw_tbl := lw_at lw_m6 182 rfl
theorem q1460 : (Jvm.Cond.instanceMethod ({ cls := "MemoryTransactionsModel", name := "exp", desc := "(Z)I" } : Jvm.MethodName)) ∈ lw_tbl := lw_at lw_m6 183 rfl
theorem q1461 : (Jvm.Cond.code ({ cls := "MemoryTransactionsModel", name := "exp", desc := "(Z)I" } : Jvm.MethodName) prog_23_method_16_code (6 : Nat) (Option.some Jvm.ClassFile.FieldType.int)) ∈ lw_tbl := lw_at lw_m6 184 rfl
theorem q1462 : (Jvm.Cond.methodLink "MemoryTransactionsModel" (272 : Nat) ({ cls := "MemoryTransactionsModel", name := "readUnary", desc := "(Z)Z" } : Jvm.MethodName)) ∈ lw_tbl := lw_at lw_m6 185 rfl
theorem q1463 : (Jvm.Cond.privateMethod ({ cls := "MemoryTransactionsModel", name := "readUnary", desc := "(Z)Z" } : Jvm.MethodName)) ∈ lw_tbl := lw_at lw_m6 186 rfl
theorem q1464 : (Jvm.Cond.instanceMethod ({ cls := "MemoryTransactionsModel", name := "readUnary", desc := "(Z)Z" } : Jvm.MethodName)) ∈ lw_tbl := lw_at lw_m6 187 rfl
theorem q1465 : (Jvm.Cond.code ({ cls := "MemoryTransactionsModel", name := "readUnary", desc := "(Z)Z" } : Jvm.MethodName) prog_23_method_17_code (4 : Nat) (Option.some Jvm.ClassFile.FieldType.boolean)) ∈ lw_tbl := lw_at lw_m6 188 rfl
theorem q1466 : (Jvm.Cond.methodLink "MemoryTransactionsModel" (262 : Nat) ({ cls := "MemoryTransactionsModel", name := "act", desc := "(IIJ)V" } : Jvm.MethodName)) ∈ lw_tbl := lw_at lw_m6 189 rfl
theorem q1467 : (Jvm.Cond.privateMethod ({ cls := "MemoryTransactionsModel", name := "act", desc := "(IIJ)V" } : Jvm.MethodName)) ∈ lw_tbl := lw_at lw_m6 190 rfl
theorem q1468 : (Jvm.Cond.instanceMethod ({ cls := "MemoryTransactionsModel", name := "act", desc := "(IIJ)V" } : Jvm.MethodName)) ∈ lw_tbl := lw_at lw_m6 191 rfl
theorem q1469 : (Jvm.Cond.code ({ cls := "MemoryTransactionsModel", name := "act", desc := "(IIJ)V" } : Jvm.MethodName) prog_23_method_12_code (6 : Nat) (Option.none : Option Jvm.ClassFile.FieldType)) ∈ lw_tbl := lw_at lw_m6 192 rfl
theorem q1470 : (Jvm.Cond.methodLink "MemoryTransactionsModel" (280 : Nat) ({ cls := "MemoryTransactionsModel", name := "operandIsThere", desc := "()V" } : Jvm.MethodName)) ∈ lw_tbl := lw_at lw_m6 193 rfl
theorem q1471 : (Jvm.Cond.privateMethod ({ cls := "MemoryTransactionsModel", name := "operandIsThere", desc := "()V" } : Jvm.MethodName)) ∈ lw_tbl := lw_at lw_m6 194 rfl
theorem q1472 : (Jvm.Cond.instanceMethod ({ cls := "MemoryTransactionsModel", name := "operandIsThere", desc := "()V" } : Jvm.MethodName)) ∈ lw_tbl := lw_at lw_m6 195 rfl
theorem q1473 : (Jvm.Cond.code ({ cls := "MemoryTransactionsModel", name := "operandIsThere", desc := "()V" } : Jvm.MethodName) prog_23_method_15_code (1 : Nat) (Option.none : Option Jvm.ClassFile.FieldType)) ∈ lw_tbl := lw_at lw_m6 196 rfl
theorem q1474 : (Jvm.Cond.methodLink "MemoryTransactionsModel" (276 : Nat) ({ cls := "MemoryTransactionsModel", name := "reduce", desc := "(I)V" } : Jvm.MethodName)) ∈ lw_tbl := lw_at lw_m6 197 rfl
theorem q1475 : (Jvm.Cond.privateMethod ({ cls := "MemoryTransactionsModel", name := "reduce", desc := "(I)V" } : Jvm.MethodName)) ∈ lw_tbl := lw_at lw_m6 198 rfl
theorem q1476 : (Jvm.Cond.instanceMethod ({ cls := "MemoryTransactionsModel", name := "reduce", desc := "(I)V" } : Jvm.MethodName)) ∈ lw_tbl := lw_at lw_m6 199 rfl
theorem q1477 : (Jvm.Cond.code ({ cls := "MemoryTransactionsModel", name := "reduce", desc := "(I)V" } : Jvm.MethodName) prog_23_method_14_code (2 : Nat) (Option.none : Option Jvm.ClassFile.FieldType)) ∈ lw_tbl := lw_at lw_m6 200 rfl
theorem q1478 : (Jvm.Cond.methodLink "MemoryTransactionsModel" (259 : Nat) ({ cls := "MemoryTransactionsModel", name := "strength", desc := "(I)I" } : Jvm.MethodName)) ∈ lw_tbl := lw_at lw_m6 201 rfl
theorem q1479 : (Jvm.Cond.static ({ cls := "MemoryTransactionsModel", name := "strength", desc := "(I)I" } : Jvm.MethodName)) ∈ lw_tbl := lw_at lw_m6 202 rfl
theorem q1480 : (Jvm.Cond.code ({ cls := "MemoryTransactionsModel", name := "strength", desc := "(I)I" } : Jvm.MethodName) prog_23_method_13_code (1 : Nat) (Option.some Jvm.ClassFile.FieldType.int)) ∈ lw_tbl := lw_at lw_m6 203 rfl
theorem q1482 : (Jvm.Cond.instanceMethod ({ cls := "MemoryTransactionsModel", name := "place", desc := "()I" } : Jvm.MethodName)) ∈ lw_tbl := lw_at lw_m6 205 rfl
theorem q1483 : (Jvm.Cond.selects "MemoryTransactionsModel" ({ cls := "MemoryTransactionsModel", name := "place", desc := "()I" } : Jvm.MethodName) ({ cls := "MemoryTransactionsModel", name := "place", desc := "()I" } : Jvm.MethodName)) ∈ lw_tbl := lw_at lw_m6 206 rfl
theorem q1484 : (Jvm.Cond.code ({ cls := "MemoryTransactionsModel", name := "place", desc := "()I" } : Jvm.MethodName) prog_23_method_27_code (1 : Nat) (Option.some Jvm.ClassFile.FieldType.int)) ∈ lw_tbl := lw_at lw_m6 207 rfl
theorem q1486 : (Jvm.Cond.instanceMethod ({ cls := "MemoryTransactionsModel", name := "told", desc := "(II)I" } : Jvm.MethodName)) ∈ lw_tbl := lw_at lw_m6 209 rfl
theorem q1487 : (Jvm.Cond.selects "MemoryTransactionsModel" ({ cls := "MemoryTransactionsModel", name := "told", desc := "(II)I" } : Jvm.MethodName) ({ cls := "MemoryTransactionsModel", name := "told", desc := "(II)I" } : Jvm.MethodName)) ∈ lw_tbl := lw_at lw_m6 210 rfl
theorem q1488 : (Jvm.Cond.code ({ cls := "MemoryTransactionsModel", name := "told", desc := "(II)I" } : Jvm.MethodName) prog_23_method_28_code (3 : Nat) (Option.some Jvm.ClassFile.FieldType.int)) ∈ lw_tbl := lw_at lw_m6 211 rfl
theorem q1490 : (Jvm.Cond.instanceMethod ({ cls := "MemoryTransactionsModel", name := "turn", desc := "(I)I" } : Jvm.MethodName)) ∈ lw_tbl := lw_at lw_m6 213 rfl
theorem q1491 : (Jvm.Cond.selects "MemoryTransactionsModel" ({ cls := "MemoryTransactionsModel", name := "turn", desc := "(I)I" } : Jvm.MethodName) ({ cls := "MemoryTransactionsModel", name := "turn", desc := "(I)I" } : Jvm.MethodName)) ∈ lw_tbl := lw_at lw_m6 214 rfl
theorem q1492 : (Jvm.Cond.code ({ cls := "MemoryTransactionsModel", name := "turn", desc := "(I)I" } : Jvm.MethodName) prog_23_method_58_code (2 : Nat) (Option.some Jvm.ClassFile.FieldType.int)) ∈ lw_tbl := lw_at lw_m6 215 rfl
theorem q1493 : (Jvm.Cond.methodLink "MemoryTransactionsModel" (431 : Nat) ({ cls := "MemoryTransactionsModel", name := "isClient", desc := "(I)Z" } : Jvm.MethodName)) ∈ lw_tbl := lw_at lw_m6 216 rfl
theorem q1494 : (Jvm.Cond.privateMethod ({ cls := "MemoryTransactionsModel", name := "isClient", desc := "(I)Z" } : Jvm.MethodName)) ∈ lw_tbl := lw_at lw_m6 217 rfl
theorem q1495 : (Jvm.Cond.instanceMethod ({ cls := "MemoryTransactionsModel", name := "isClient", desc := "(I)Z" } : Jvm.MethodName)) ∈ lw_tbl := lw_at lw_m6 218 rfl
theorem q1496 : (Jvm.Cond.code ({ cls := "MemoryTransactionsModel", name := "isClient", desc := "(I)Z" } : Jvm.MethodName) prog_23_method_48_code (2 : Nat) (Option.some Jvm.ClassFile.FieldType.boolean)) ∈ lw_tbl := lw_at lw_m6 219 rfl
theorem q1497 : (Jvm.Cond.methodLink "MemoryTransactionsModel" (434 : Nat) ({ cls := "MemoryTransactionsModel", name := "turnOf", desc := "(I)I" } : Jvm.MethodName)) ∈ lw_tbl := lw_at lw_m6 220 rfl
theorem q1498 : (Jvm.Cond.privateMethod ({ cls := "MemoryTransactionsModel", name := "turnOf", desc := "(I)I" } : Jvm.MethodName)) ∈ lw_tbl := lw_at lw_m6 221 rfl
theorem q1499 : (Jvm.Cond.instanceMethod ({ cls := "MemoryTransactionsModel", name := "turnOf", desc := "(I)I" } : Jvm.MethodName)) ∈ lw_tbl := lw_at lw_m6 222 rfl
theorem q1500 : (Jvm.Cond.code ({ cls := "MemoryTransactionsModel", name := "turnOf", desc := "(I)I" } : Jvm.MethodName) prog_23_method_57_code (3 : Nat) (Option.some Jvm.ClassFile.FieldType.int)) ∈ lw_tbl := lw_at lw_m6 223 rfl
theorem q1501 : (Jvm.Cond.methodLink "MemoryTransactionsModel" (389 : Nat) ({ cls := "MemoryTransactionsModel", name := "bringRead", desc := "(I)V" } : Jvm.MethodName)) ∈ lw_tbl := lw_at lw_m6 224 rfl
theorem q1502 : (Jvm.Cond.privateMethod ({ cls := "MemoryTransactionsModel", name := "bringRead", desc := "(I)V" } : Jvm.MethodName)) ∈ lw_tbl := lw_at lw_m6 225 rfl
theorem q1503 : (Jvm.Cond.instanceMethod ({ cls := "MemoryTransactionsModel", name := "bringRead", desc := "(I)V" } : Jvm.MethodName)) ∈ lw_tbl := lw_at lw_m6 226 rfl
theorem q1504 : (Jvm.Cond.code ({ cls := "MemoryTransactionsModel", name := "bringRead", desc := "(I)V" } : Jvm.MethodName) prog_23_method_50_code (3 : Nat) (Option.none : Option Jvm.ClassFile.FieldType)) ∈ lw_tbl := lw_at lw_m6 227 rfl
theorem q1505 : (Jvm.Cond.methodLink "MemoryTransactionsModel" (325 : Nat) ({ cls := "MemoryTransactionsModel", name := "isChanged", desc := "()Z" } : Jvm.MethodName)) ∈ lw_tbl := lw_at lw_m6 228 rfl
theorem q1506 : (Jvm.Cond.privateMethod ({ cls := "MemoryTransactionsModel", name := "isChanged", desc := "()Z" } : Jvm.MethodName)) ∈ lw_tbl := lw_at lw_m6 229 rfl
theorem q1507 : (Jvm.Cond.instanceMethod ({ cls := "MemoryTransactionsModel", name := "isChanged", desc := "()Z" } : Jvm.MethodName)) ∈ lw_tbl := lw_at lw_m6 230 rfl
theorem q1508 : (Jvm.Cond.code ({ cls := "MemoryTransactionsModel", name := "isChanged", desc := "()Z" } : Jvm.MethodName) prog_23_method_29_code (2 : Nat) (Option.some Jvm.ClassFile.FieldType.boolean)) ∈ lw_tbl := lw_at lw_m6 231 rfl
theorem q1509 : (Jvm.Cond.methodLink "MemoryTransactionsModel" (405 : Nat) ({ cls := "MemoryTransactionsModel", name := "walkAnew", desc := "(I)V" } : Jvm.MethodName)) ∈ lw_tbl := lw_at lw_m6 232 rfl
theorem q1510 : (Jvm.Cond.privateMethod ({ cls := "MemoryTransactionsModel", name := "walkAnew", desc := "(I)V" } : Jvm.MethodName)) ∈ lw_tbl := lw_at lw_m6 233 rfl
theorem q1511 : (Jvm.Cond.instanceMethod ({ cls := "MemoryTransactionsModel", name := "walkAnew", desc := "(I)V" } : Jvm.MethodName)) ∈ lw_tbl := lw_at lw_m6 234 rfl
theorem q1512 : (Jvm.Cond.code ({ cls := "MemoryTransactionsModel", name := "walkAnew", desc := "(I)V" } : Jvm.MethodName) prog_23_method_52_code (4 : Nat) (Option.none : Option Jvm.ClassFile.FieldType)) ∈ lw_tbl := lw_at lw_m6 235 rfl
theorem q1513 : (Jvm.Cond.methodLink "MemoryTransactionsModel" (392 : Nat) ({ cls := "MemoryTransactionsModel", name := "firstOf", desc := "(I)I" } : Jvm.MethodName)) ∈ lw_tbl := lw_at lw_m6 236 rfl
theorem q1514 : (Jvm.Cond.privateMethod ({ cls := "MemoryTransactionsModel", name := "firstOf", desc := "(I)I" } : Jvm.MethodName)) ∈ lw_tbl := lw_at lw_m6 237 rfl
theorem q1515 : (Jvm.Cond.instanceMethod ({ cls := "MemoryTransactionsModel", name := "firstOf", desc := "(I)I" } : Jvm.MethodName)) ∈ lw_tbl := lw_at lw_m6 238 rfl
theorem q1516 : (Jvm.Cond.code ({ cls := "MemoryTransactionsModel", name := "firstOf", desc := "(I)I" } : Jvm.MethodName) prog_23_method_49_code (2 : Nat) (Option.some Jvm.ClassFile.FieldType.int)) ∈ lw_tbl := lw_at lw_m6 239 rfl
theorem q1517 : (Jvm.Cond.methodLink "MemoryTransactionsModel" (345 : Nat) ({ cls := "MemoryTransactionsModel", name := "beginWalk", desc := "(I)V" } : Jvm.MethodName)) ∈ lw_tbl := lw_at lw_m7 0 rfl
theorem q1518 : (Jvm.Cond.privateMethod ({ cls := "MemoryTransactionsModel", name := "beginWalk", desc := "(I)V" } : Jvm.MethodName)) ∈ lw_tbl := lw_at lw_m7 1 rfl
theorem q1519 : (Jvm.Cond.instanceMethod ({ cls := "MemoryTransactionsModel", name := "beginWalk", desc := "(I)V" } : Jvm.MethodName)) ∈ lw_tbl := lw_at lw_m7 2 rfl
theorem q1520 : (Jvm.Cond.code ({ cls := "MemoryTransactionsModel", name := "beginWalk", desc := "(I)V" } : Jvm.MethodName) prog_23_method_34_code (3 : Nat) (Option.none : Option Jvm.ClassFile.FieldType)) ∈ lw_tbl := lw_at lw_m7 3 rfl
theorem q1521 : (Jvm.Cond.methodLink "MemoryTransactionsModel" (395 : Nat) ({ cls := "MemoryTransactionsModel", name := "step", desc := "()I" } : Jvm.MethodName)) ∈ lw_tbl := lw_at lw_m7 4 rfl
theorem q1522 : (Jvm.Cond.privateMethod ({ cls := "MemoryTransactionsModel", name := "step", desc := "()I" } : Jvm.MethodName)) ∈ lw_tbl := lw_at lw_m7 5 rfl
theorem q1523 : (Jvm.Cond.instanceMethod ({ cls := "MemoryTransactionsModel", name := "step", desc := "()I" } : Jvm.MethodName)) ∈ lw_tbl := lw_at lw_m7 6 rfl
theorem q1524 : (Jvm.Cond.code ({ cls := "MemoryTransactionsModel", name := "step", desc := "()I" } : Jvm.MethodName) prog_23_method_40_code (4 : Nat) (Option.some Jvm.ClassFile.FieldType.int)) ∈ lw_tbl := lw_at lw_m7 7 rfl
theorem q1525 : (Jvm.Cond.methodLink "MemoryTransactionsModel" (357 : Nat) ({ cls := "MemoryTransactionsModel", name := "work", desc := "(IZ)J" } : Jvm.MethodName)) ∈ lw_tbl := lw_at lw_m7 8 rfl
theorem q1526 : (Jvm.Cond.privateMethod ({ cls := "MemoryTransactionsModel", name := "work", desc := "(IZ)J" } : Jvm.MethodName)) ∈ lw_tbl := lw_at lw_m7 9 rfl
theorem q1527 : (Jvm.Cond.instanceMethod ({ cls := "MemoryTransactionsModel", name := "work", desc := "(IZ)J" } : Jvm.MethodName)) ∈ lw_tbl := lw_at lw_m7 10 rfl
theorem q1528 : (Jvm.Cond.code ({ cls := "MemoryTransactionsModel", name := "work", desc := "(IZ)J" } : Jvm.MethodName) prog_23_method_31_code (6 : Nat) (Option.some Jvm.ClassFile.FieldType.long)) ∈ lw_tbl := lw_at lw_m7 11 rfl
theorem q1529 : (Jvm.Cond.methodLink "MemoryTransactionsModel" (332 : Nat) ({ cls := "MemoryTransactionsModel", name := "valueOf", desc := "(I)J" } : Jvm.MethodName)) ∈ lw_tbl := lw_at lw_m7 12 rfl
theorem q1530 : (Jvm.Cond.privateMethod ({ cls := "MemoryTransactionsModel", name := "valueOf", desc := "(I)J" } : Jvm.MethodName)) ∈ lw_tbl := lw_at lw_m7 13 rfl
theorem q1531 : (Jvm.Cond.instanceMethod ({ cls := "MemoryTransactionsModel", name := "valueOf", desc := "(I)J" } : Jvm.MethodName)) ∈ lw_tbl := lw_at lw_m7 14 rfl
theorem q1532 : (Jvm.Cond.code ({ cls := "MemoryTransactionsModel", name := "valueOf", desc := "(I)J" } : Jvm.MethodName) prog_23_method_30_code (2 : Nat) (Option.some Jvm.ClassFile.FieldType.long)) ∈ lw_tbl := lw_at lw_m7 15 rfl
theorem q1533 : (Jvm.Cond.methodLink "MemoryTransactionsModel" (336 : Nat) ({ cls := "MemoryTransactionsModel", name := "two", desc := "(IJJ)J" } : Jvm.MethodName)) ∈ lw_tbl := lw_at lw_m7 16 rfl
theorem q1534 : (Jvm.Cond.privateMethod ({ cls := "MemoryTransactionsModel", name := "two", desc := "(IJJ)J" } : Jvm.MethodName)) ∈ lw_tbl := lw_at lw_m7 17 rfl
theorem q1535 : (Jvm.Cond.instanceMethod ({ cls := "MemoryTransactionsModel", name := "two", desc := "(IJJ)J" } : Jvm.MethodName)) ∈ lw_tbl := lw_at lw_m7 18 rfl
theorem q1536 : (Jvm.Cond.code ({ cls := "MemoryTransactionsModel", name := "two", desc := "(IJJ)J" } : Jvm.MethodName) prog_23_method_32_code (6 : Nat) (Option.some Jvm.ClassFile.FieldType.long)) ∈ lw_tbl := lw_at lw_m7 19 rfl
theorem q1537 : (Jvm.Cond.constantLong "MemoryTransactionsModel" (340 : Nat) (-1 : Int64)) ∈ lw_tbl := lw_at lw_m7 20 rfl
theorem q1538 : (Jvm.Cond.methodLink "MemoryTransactionsModel" (361 : Nat) ({ cls := "MemoryTransactionsModel", name := "throwFrom", desc := "(I)I" } : Jvm.MethodName)) ∈ lw_tbl := lw_at lw_m7 21 rfl
theorem q1539 : (Jvm.Cond.privateMethod ({ cls := "MemoryTransactionsModel", name := "throwFrom", desc := "(I)I" } : Jvm.MethodName)) ∈ lw_tbl := lw_at lw_m7 22 rfl
theorem q1540 : (Jvm.Cond.instanceMethod ({ cls := "MemoryTransactionsModel", name := "throwFrom", desc := "(I)I" } : Jvm.MethodName)) ∈ lw_tbl := lw_at lw_m7 23 rfl
theorem q1541 : (Jvm.Cond.code ({ cls := "MemoryTransactionsModel", name := "throwFrom", desc := "(I)I" } : Jvm.MethodName) prog_23_method_41_code (3 : Nat) (Option.some Jvm.ClassFile.FieldType.int)) ∈ lw_tbl := lw_at lw_m7 24 rfl
theorem q1542 : (Jvm.Cond.methodLink "MemoryTransactionsModel" (373 : Nat) ({ cls := "MemoryTransactionsModel", name := "around", desc := "(II)I" } : Jvm.MethodName)) ∈ lw_tbl := lw_at lw_m7 25 rfl
theorem q1543 : (Jvm.Cond.privateMethod ({ cls := "MemoryTransactionsModel", name := "around", desc := "(II)I" } : Jvm.MethodName)) ∈ lw_tbl := lw_at lw_m7 26 rfl
theorem q1544 : (Jvm.Cond.instanceMethod ({ cls := "MemoryTransactionsModel", name := "around", desc := "(II)I" } : Jvm.MethodName)) ∈ lw_tbl := lw_at lw_m7 27 rfl
theorem q1545 : (Jvm.Cond.code ({ cls := "MemoryTransactionsModel", name := "around", desc := "(II)I" } : Jvm.MethodName) prog_23_method_39_code (5 : Nat) (Option.some Jvm.ClassFile.FieldType.int)) ∈ lw_tbl := lw_at lw_m7 28 rfl
theorem q1546 : (Jvm.Cond.methodLink "MemoryTransactionsModel" (377 : Nat) ({ cls := "MemoryTransactionsModel", name := "bringBack", desc := "(I)V" } : Jvm.MethodName)) ∈ lw_tbl := lw_at lw_m7 29 rfl
theorem q1547 : (Jvm.Cond.privateMethod ({ cls := "MemoryTransactionsModel", name := "bringBack", desc := "(I)V" } : Jvm.MethodName)) ∈ lw_tbl := lw_at lw_m7 30 rfl
theorem q1548 : (Jvm.Cond.instanceMethod ({ cls := "MemoryTransactionsModel", name := "bringBack", desc := "(I)V" } : Jvm.MethodName)) ∈ lw_tbl := lw_at lw_m7 31 rfl
theorem q1549 : (Jvm.Cond.code ({ cls := "MemoryTransactionsModel", name := "bringBack", desc := "(I)V" } : Jvm.MethodName) prog_23_method_38_code (3 : Nat) (Option.none : Option Jvm.ClassFile.FieldType)) ∈ lw_tbl := lw_at lw_m7 32 rfl
theorem q1550 : (Jvm.Cond.methodLink "MemoryTransactionsModel" (364 : Nat) ({ cls := "MemoryTransactionsModel", name := "goIn", desc := "(II)V" } : Jvm.MethodName)) ∈ lw_tbl := lw_at lw_m7 33 rfl
theorem q1551 : (Jvm.Cond.privateMethod ({ cls := "MemoryTransactionsModel", name := "goIn", desc := "(II)V" } : Jvm.MethodName)) ∈ lw_tbl := lw_at lw_m7 34 rfl
theorem q1552 : (Jvm.Cond.instanceMethod ({ cls := "MemoryTransactionsModel", name := "goIn", desc := "(II)V" } : Jvm.MethodName)) ∈ lw_tbl := lw_at lw_m7 35 rfl
theorem q1553 : (Jvm.Cond.code ({ cls := "MemoryTransactionsModel", name := "goIn", desc := "(II)V" } : Jvm.MethodName) prog_23_method_36_code (3 : Nat) (Option.none : Option Jvm.ClassFile.FieldType)) ∈ lw_tbl := lw_at lw_m7 36 rfl
theorem q1554 : (Jvm.Cond.methodLink "MemoryTransactionsModel" (354 : Nat) ({ cls := "MemoryTransactionsModel", name := "behind", desc := "(I)I" } : Jvm.MethodName)) ∈ lw_tbl := lw_at lw_m7 37 rfl
theorem q1555 : (Jvm.Cond.privateMethod ({ cls := "MemoryTransactionsModel", name := "behind", desc := "(I)I" } : Jvm.MethodName)) ∈ lw_tbl := lw_at lw_m7 38 rfl
theorem q1556 : (Jvm.Cond.instanceMethod ({ cls := "MemoryTransactionsModel", name := "behind", desc := "(I)I" } : Jvm.MethodName)) ∈ lw_tbl := lw_at lw_m7 39 rfl
theorem q1557 : (Jvm.Cond.code ({ cls := "MemoryTransactionsModel", name := "behind", desc := "(I)I" } : Jvm.MethodName) prog_23_method_35_code (3 : Nat) (Option.some Jvm.ClassFile.FieldType.int)) ∈ lw_tbl := lw_at lw_m7 40 rfl
theorem q1558 : (Jvm.Cond.methodLink "MemoryTransactionsModel" (367 : Nat) ({ cls := "MemoryTransactionsModel", name := "retryFrom", desc := "(I)I" } : Jvm.MethodName)) ∈ lw_tbl := lw_at lw_m7 41 rfl
theorem q1559 : (Jvm.Cond.privateMethod ({ cls := "MemoryTransactionsModel", name := "retryFrom", desc := "(I)I" } : Jvm.MethodName)) ∈ lw_tbl := lw_at lw_m7 42 rfl
theorem q1560 : (Jvm.Cond.instanceMethod ({ cls := "MemoryTransactionsModel", name := "retryFrom", desc := "(I)I" } : Jvm.MethodName)) ∈ lw_tbl := lw_at lw_m7 43 rfl
theorem q1561 : (Jvm.Cond.code ({ cls := "MemoryTransactionsModel", name := "retryFrom", desc := "(I)I" } : Jvm.MethodName) prog_23_method_42_code (3 : Nat) (Option.some Jvm.ClassFile.FieldType.int)) ∈ lw_tbl := lw_at lw_m7 44 rfl
theorem q1562 : (Jvm.Cond.methodLink "MemoryTransactionsModel" (370 : Nat) ({ cls := "MemoryTransactionsModel", name := "keep", desc := "(I)V" } : Jvm.MethodName)) ∈ lw_tbl := lw_at lw_m7 45 rfl
theorem q1563 : (Jvm.Cond.privateMethod ({ cls := "MemoryTransactionsModel", name := "keep", desc := "(I)V" } : Jvm.MethodName)) ∈ lw_tbl := lw_at lw_m7 46 rfl
theorem q1564 : (Jvm.Cond.instanceMethod ({ cls := "MemoryTransactionsModel", name := "keep", desc := "(I)V" } : Jvm.MethodName)) ∈ lw_tbl := lw_at lw_m7 47 rfl
theorem q1565 : (Jvm.Cond.code ({ cls := "MemoryTransactionsModel", name := "keep", desc := "(I)V" } : Jvm.MethodName) prog_23_method_37_code (3 : Nat) (Option.none : Option Jvm.ClassFile.FieldType)) ∈ lw_tbl := lw_at lw_m7 48 rfl
theorem q1566 : (Jvm.Cond.constantLong "MemoryTransactionsModel" (408 : Nat) (-3 : Int64)) ∈ lw_tbl := lw_at lw_m7 49 rfl
theorem q1567 : (Jvm.Cond.methodLink "MemoryTransactionsModel" (410 : Nat) ({ cls := "MemoryTransactionsModel", name := "keepRead", desc := "(I)V" } : Jvm.MethodName)) ∈ lw_tbl := lw_at lw_m7 50 rfl
theorem q1568 : (Jvm.Cond.privateMethod ({ cls := "MemoryTransactionsModel", name := "keepRead", desc := "(I)V" } : Jvm.MethodName)) ∈ lw_tbl := lw_at lw_m7 51 rfl
theorem q1569 : (Jvm.Cond.instanceMethod ({ cls := "MemoryTransactionsModel", name := "keepRead", desc := "(I)V" } : Jvm.MethodName)) ∈ lw_tbl := lw_at lw_m7 52 rfl
theorem q1570 : (Jvm.Cond.code ({ cls := "MemoryTransactionsModel", name := "keepRead", desc := "(I)V" } : Jvm.MethodName) prog_23_method_51_code (3 : Nat) (Option.none : Option Jvm.ClassFile.FieldType)) ∈ lw_tbl := lw_at lw_m7 53 rfl
theorem q1571 : (Jvm.Cond.methodLink "MemoryTransactionsModel" (413 : Nat) ({ cls := "MemoryTransactionsModel", name := "cutRun", desc := "(I)I" } : Jvm.MethodName)) ∈ lw_tbl := lw_at lw_m7 54 rfl
theorem q1572 : (Jvm.Cond.privateMethod ({ cls := "MemoryTransactionsModel", name := "cutRun", desc := "(I)I" } : Jvm.MethodName)) ∈ lw_tbl := lw_at lw_m7 55 rfl
theorem q1573 : (Jvm.Cond.instanceMethod ({ cls := "MemoryTransactionsModel", name := "cutRun", desc := "(I)I" } : Jvm.MethodName)) ∈ lw_tbl := lw_at lw_m7 56 rfl
theorem q1574 : (Jvm.Cond.code ({ cls := "MemoryTransactionsModel", name := "cutRun", desc := "(I)I" } : Jvm.MethodName) prog_23_method_54_code (2 : Nat) (Option.some Jvm.ClassFile.FieldType.int)) ∈ lw_tbl := lw_at lw_m7 57 rfl
theorem q1575 : (Jvm.Cond.methodLink "MemoryTransactionsModel" (416 : Nat) ({ cls := "MemoryTransactionsModel", name := "isHeld", desc := "(I)Z" } : Jvm.MethodName)) ∈ lw_tbl := lw_at lw_m7 58 rfl
theorem q1576 : (Jvm.Cond.privateMethod ({ cls := "MemoryTransactionsModel", name := "isHeld", desc := "(I)Z" } : Jvm.MethodName)) ∈ lw_tbl := lw_at lw_m7 59 rfl
theorem q1577 : (Jvm.Cond.instanceMethod ({ cls := "MemoryTransactionsModel", name := "isHeld", desc := "(I)Z" } : Jvm.MethodName)) ∈ lw_tbl := lw_at lw_m7 60 rfl
theorem q1578 : (Jvm.Cond.code ({ cls := "MemoryTransactionsModel", name := "isHeld", desc := "(I)Z" } : Jvm.MethodName) prog_23_method_53_code (4 : Nat) (Option.some Jvm.ClassFile.FieldType.boolean)) ∈ lw_tbl := lw_at lw_m7 61 rfl
theorem q1579 : (Jvm.Cond.methodLink "MemoryTransactionsModel" (419 : Nat) ({ cls := "MemoryTransactionsModel", name := "endThrown", desc := "(IJ)I" } : Jvm.MethodName)) ∈ lw_tbl := lw_at lw_m7 62 rfl
theorem q1580 : (Jvm.Cond.privateMethod ({ cls := "MemoryTransactionsModel", name := "endThrown", desc := "(IJ)I" } : Jvm.MethodName)) ∈ lw_tbl := lw_at lw_m7 63 rfl
theorem q1581 : (Jvm.Cond.instanceMethod ({ cls := "MemoryTransactionsModel", name := "endThrown", desc := "(IJ)I" } : Jvm.MethodName)) ∈ lw_tbl := lw_at lw_m7 64 rfl
theorem q1582 : (Jvm.Cond.code ({ cls := "MemoryTransactionsModel", name := "endThrown", desc := "(IJ)I" } : Jvm.MethodName) prog_23_method_56_code (4 : Nat) (Option.some Jvm.ClassFile.FieldType.int)) ∈ lw_tbl := lw_at lw_m7 65 rfl
theorem q1583 : (Jvm.Cond.methodLink "MemoryTransactionsModel" (398 : Nat) ({ cls := "MemoryTransactionsModel", name := "addRow", desc := "(IIIIIJ)V" } : Jvm.MethodName)) ∈ lw_tbl := lw_at lw_m7 66 rfl
theorem q1584 : (Jvm.Cond.privateMethod ({ cls := "MemoryTransactionsModel", name := "addRow", desc := "(IIIIIJ)V" } : Jvm.MethodName)) ∈ lw_tbl := lw_at lw_m7 67 rfl
theorem q1585 : (Jvm.Cond.instanceMethod ({ cls := "MemoryTransactionsModel", name := "addRow", desc := "(IIIIIJ)V" } : Jvm.MethodName)) ∈ lw_tbl := lw_at lw_m7 68 rfl
theorem q1586 : (Jvm.Cond.code ({ cls := "MemoryTransactionsModel", name := "addRow", desc := "(IIIIIJ)V" } : Jvm.MethodName) prog_23_method_47_code (8 : Nat) (Option.none : Option Jvm.ClassFile.FieldType)) ∈ lw_tbl := lw_at lw_m7 69 rfl
theorem q1587 : (Jvm.Cond.methodLink "MemoryTransactionsModel" (402 : Nat) ({ cls := "MemoryTransactionsModel", name := "over", desc := "(I)V" } : Jvm.MethodName)) ∈ lw_tbl := lw_at lw_m7 70 rfl
theorem q1588 : (Jvm.Cond.privateMethod ({ cls := "MemoryTransactionsModel", name := "over", desc := "(I)V" } : Jvm.MethodName)) ∈ lw_tbl := lw_at lw_m7 71 rfl
theorem q1589 : (Jvm.Cond.instanceMethod ({ cls := "MemoryTransactionsModel", name := "over", desc := "(I)V" } : Jvm.MethodName)) ∈ lw_tbl := lw_at lw_m7 72 rfl
theorem q1590 : (Jvm.Cond.code ({ cls := "MemoryTransactionsModel", name := "over", desc := "(I)V" } : Jvm.MethodName) prog_23_method_55_code (3 : Nat) (Option.none : Option Jvm.ClassFile.FieldType)) ∈ lw_tbl := lw_at lw_m7 73 rfl
theorem q1591 : (Jvm.Cond.methodLink "MemoryTransactionsModel" (423 : Nat) ({ cls := "MemoryTransactionsModel", name := "isWell", desc := "()Z" } : Jvm.MethodName)) ∈ lw_tbl := lw_at lw_m7 74 rfl
theorem q1592 : (Jvm.Cond.privateMethod ({ cls := "MemoryTransactionsModel", name := "isWell", desc := "()Z" } : Jvm.MethodName)) ∈ lw_tbl := lw_at lw_m7 75 rfl
theorem q1593 : (Jvm.Cond.instanceMethod ({ cls := "MemoryTransactionsModel", name := "isWell", desc := "()Z" } : Jvm.MethodName)) ∈ lw_tbl := lw_at lw_m7 76 rfl
theorem q1594 : (Jvm.Cond.code ({ cls := "MemoryTransactionsModel", name := "isWell", desc := "()Z" } : Jvm.MethodName) prog_23_method_45_code (3 : Nat) (Option.some Jvm.ClassFile.FieldType.boolean)) ∈ lw_tbl := lw_at lw_m7 77 rfl
theorem q1595 : (Jvm.Cond.methodLink "MemoryTransactionsModel" (383 : Nat) ({ cls := "MemoryTransactionsModel", name := "rulesHold", desc := "()Z" } : Jvm.MethodName)) ∈ lw_tbl := lw_at lw_m7 78 rfl
theorem q1596 : (Jvm.Cond.privateMethod ({ cls := "MemoryTransactionsModel", name := "rulesHold", desc := "()Z" } : Jvm.MethodName)) ∈ lw_tbl := lw_at lw_m7 79 rfl
theorem q1597 : (Jvm.Cond.instanceMethod ({ cls := "MemoryTransactionsModel", name := "rulesHold", desc := "()Z" } : Jvm.MethodName)) ∈ lw_tbl := lw_at lw_m7 80 rfl
theorem q1598 : (Jvm.Cond.code ({ cls := "MemoryTransactionsModel", name := "rulesHold", desc := "()Z" } : Jvm.MethodName) prog_23_method_44_code (3 : Nat) (Option.some Jvm.ClassFile.FieldType.boolean)) ∈ lw_tbl := lw_at lw_m7 81 rfl
theorem q1599 : (Jvm.Cond.methodLink "MemoryTransactionsModel" (380 : Nat) ({ cls := "MemoryTransactionsModel", name := "holds", desc := "(I)Z" } : Jvm.MethodName)) ∈ lw_tbl := lw_at lw_m7 82 rfl
theorem q1600 : (Jvm.Cond.privateMethod ({ cls := "MemoryTransactionsModel", name := "holds", desc := "(I)Z" } : Jvm.MethodName)) ∈ lw_tbl := lw_at lw_m7 83 rfl
theorem q1601 : (Jvm.Cond.instanceMethod ({ cls := "MemoryTransactionsModel", name := "holds", desc := "(I)Z" } : Jvm.MethodName)) ∈ lw_tbl := lw_at lw_m7 84 rfl
theorem q1602 : (Jvm.Cond.code ({ cls := "MemoryTransactionsModel", name := "holds", desc := "(I)Z" } : Jvm.MethodName) prog_23_method_43_code (4 : Nat) (Option.some Jvm.ClassFile.FieldType.boolean)) ∈ lw_tbl := lw_at lw_m7 85 rfl
theorem q1603 : (Jvm.Cond.constantLong "MemoryTransactionsModel" (426 : Nat) (-2 : Int64)) ∈ lw_tbl := lw_at lw_m7 86 rfl
theorem q1604 : (Jvm.Cond.methodLink "MemoryTransactionsModel" (428 : Nat) ({ cls := "MemoryTransactionsModel", name := "bringIn", desc := "()V" } : Jvm.MethodName)) ∈ lw_tbl := lw_at lw_m7 87 rfl
theorem q1605 : (Jvm.Cond.privateMethod ({ cls := "MemoryTransactionsModel", name := "bringIn", desc := "()V" } : Jvm.MethodName)) ∈ lw_tbl := lw_at lw_m7 88 rfl
theorem q1606 : (Jvm.Cond.instanceMethod ({ cls := "MemoryTransactionsModel", name := "bringIn", desc := "()V" } : Jvm.MethodName)) ∈ lw_tbl := lw_at lw_m7 89 rfl
theorem q1607 : (Jvm.Cond.code ({ cls := "MemoryTransactionsModel", name := "bringIn", desc := "()V" } : Jvm.MethodName) prog_23_method_46_code (2 : Nat) (Option.none : Option Jvm.ClassFile.FieldType)) ∈ lw_tbl := lw_at lw_m7 90 rfl
theorem q1609 : (Jvm.Cond.instanceMethod ({ cls := "MemoryTransactionsModel", name := "play", desc := "(JI)I" } : Jvm.MethodName)) ∈ lw_tbl := lw_at lw_m7 92 rfl
theorem q1610 : (Jvm.Cond.selects "MemoryTransactionsModel" ({ cls := "MemoryTransactionsModel", name := "play", desc := "(JI)I" } : Jvm.MethodName) ({ cls := "MemoryTransactionsModel", name := "play", desc := "(JI)I" } : Jvm.MethodName)) ∈ lw_tbl := lw_at lw_m7 93 rfl
theorem q1611 : (Jvm.Cond.code ({ cls := "MemoryTransactionsModel", name := "play", desc := "(JI)I" } : Jvm.MethodName) prog_23_method_59_code (8 : Nat) (Option.some Jvm.ClassFile.FieldType.int)) ∈ lw_tbl := lw_at lw_m7 94 rfl
theorem q1612 : (Jvm.Cond.constantLong "MemoryTransactionsModel" (437 : Nat) (6364136223846793005 : Int64)) ∈ lw_tbl := lw_at lw_m7 95 rfl
theorem q1613 : (Jvm.Cond.constantLong "MemoryTransactionsModel" (439 : Nat) (1442695040888963407 : Int64)) ∈ lw_tbl := lw_at lw_m7 96 rfl
theorem q1615 : (Jvm.Cond.instanceMethod ({ cls := "MemoryTransactionsModel", name := "put", desc := "(IJ)I" } : Jvm.MethodName)) ∈ lw_tbl := lw_at lw_m7 98 rfl
theorem q1616 : (Jvm.Cond.selects "MemoryTransactionsModel" ({ cls := "MemoryTransactionsModel", name := "put", desc := "(IJ)I" } : Jvm.MethodName) ({ cls := "MemoryTransactionsModel", name := "put", desc := "(IJ)I" } : Jvm.MethodName)) ∈ lw_tbl := lw_at lw_m7 99 rfl
theorem q1617 : (Jvm.Cond.code ({ cls := "MemoryTransactionsModel", name := "put", desc := "(IJ)I" } : Jvm.MethodName) prog_23_method_60_code (5 : Nat) (Option.some Jvm.ClassFile.FieldType.int)) ∈ lw_tbl := lw_at lw_m7 100 rfl
theorem q1619 : (Jvm.Cond.instanceMethod ({ cls := "MemoryTransactionsModel", name := "cell", desc := "(I)J" } : Jvm.MethodName)) ∈ lw_tbl := lw_at lw_m7 102 rfl
theorem q1620 : (Jvm.Cond.selects "MemoryTransactionsModel" ({ cls := "MemoryTransactionsModel", name := "cell", desc := "(I)J" } : Jvm.MethodName) ({ cls := "MemoryTransactionsModel", name := "cell", desc := "(I)J" } : Jvm.MethodName)) ∈ lw_tbl := lw_at lw_m7 103 rfl
theorem q1621 : (Jvm.Cond.code ({ cls := "MemoryTransactionsModel", name := "cell", desc := "(I)J" } : Jvm.MethodName) prog_23_method_61_code (2 : Nat) (Option.some Jvm.ClassFile.FieldType.long)) ∈ lw_tbl := lw_at lw_m7 104 rfl
theorem q1623 : (Jvm.Cond.instanceMethod ({ cls := "MemoryTransactionsModel", name := "version", desc := "(I)I" } : Jvm.MethodName)) ∈ lw_tbl := lw_at lw_m7 106 rfl
theorem q1624 : (Jvm.Cond.selects "MemoryTransactionsModel" ({ cls := "MemoryTransactionsModel", name := "version", desc := "(I)I" } : Jvm.MethodName) ({ cls := "MemoryTransactionsModel", name := "version", desc := "(I)I" } : Jvm.MethodName)) ∈ lw_tbl := lw_at lw_m7 107 rfl
theorem q1625 : (Jvm.Cond.code ({ cls := "MemoryTransactionsModel", name := "version", desc := "(I)I" } : Jvm.MethodName) prog_23_method_62_code (2 : Nat) (Option.some Jvm.ClassFile.FieldType.int)) ∈ lw_tbl := lw_at lw_m7 108 rfl
theorem q1627 : (Jvm.Cond.instanceMethod ({ cls := "MemoryTransactionsModel", name := "add", desc := "(II)I" } : Jvm.MethodName)) ∈ lw_tbl := lw_at lw_m7 110 rfl
theorem q1628 : (Jvm.Cond.selects "MemoryTransactionsModel" ({ cls := "MemoryTransactionsModel", name := "add", desc := "(II)I" } : Jvm.MethodName) ({ cls := "MemoryTransactionsModel", name := "add", desc := "(II)I" } : Jvm.MethodName)) ∈ lw_tbl := lw_at lw_m7 111 rfl
theorem q1629 : (Jvm.Cond.code ({ cls := "MemoryTransactionsModel", name := "add", desc := "(II)I" } : Jvm.MethodName) prog_23_method_63_code (3 : Nat) (Option.some Jvm.ClassFile.FieldType.int)) ∈ lw_tbl := lw_at lw_m7 112 rfl
theorem q1631 : (Jvm.Cond.instanceMethod ({ cls := "MemoryTransactionsModel", name := "client", desc := "(II)I" } : Jvm.MethodName)) ∈ lw_tbl := lw_at lw_m7 114 rfl
theorem q1632 : (Jvm.Cond.selects "MemoryTransactionsModel" ({ cls := "MemoryTransactionsModel", name := "client", desc := "(II)I" } : Jvm.MethodName) ({ cls := "MemoryTransactionsModel", name := "client", desc := "(II)I" } : Jvm.MethodName)) ∈ lw_tbl := lw_at lw_m7 115 rfl
theorem q1633 : (Jvm.Cond.code ({ cls := "MemoryTransactionsModel", name := "client", desc := "(II)I" } : Jvm.MethodName) prog_23_method_64_code (5 : Nat) (Option.some Jvm.ClassFile.FieldType.int)) ∈ lw_tbl := lw_at lw_m7 116 rfl
theorem q1635 : (Jvm.Cond.instanceMethod ({ cls := "MemoryTransactionsModel", name := "sees", desc := "(II)J" } : Jvm.MethodName)) ∈ lw_tbl := lw_at lw_m7 118 rfl
theorem q1636 : (Jvm.Cond.selects "MemoryTransactionsModel" ({ cls := "MemoryTransactionsModel", name := "sees", desc := "(II)J" } : Jvm.MethodName) ({ cls := "MemoryTransactionsModel", name := "sees", desc := "(II)J" } : Jvm.MethodName)) ∈ lw_tbl := lw_at lw_m7 119 rfl
theorem q1637 : (Jvm.Cond.code ({ cls := "MemoryTransactionsModel", name := "sees", desc := "(II)J" } : Jvm.MethodName) prog_23_method_65_code (3 : Nat) (Option.some Jvm.ClassFile.FieldType.long)) ∈ lw_tbl := lw_at lw_m7 120 rfl
theorem q1639 : (Jvm.Cond.instanceMethod ({ cls := "MemoryTransactionsModel", name := "rules", desc := "()I" } : Jvm.MethodName)) ∈ lw_tbl := lw_at lw_m7 122 rfl
theorem q1640 : (Jvm.Cond.selects "MemoryTransactionsModel" ({ cls := "MemoryTransactionsModel", name := "rules", desc := "()I" } : Jvm.MethodName) ({ cls := "MemoryTransactionsModel", name := "rules", desc := "()I" } : Jvm.MethodName)) ∈ lw_tbl := lw_at lw_m7 123 rfl
theorem q1641 : (Jvm.Cond.code ({ cls := "MemoryTransactionsModel", name := "rules", desc := "()I" } : Jvm.MethodName) prog_23_method_66_code (1 : Nat) (Option.some Jvm.ClassFile.FieldType.int)) ∈ lw_tbl := lw_at lw_m7 124 rfl
theorem q1643 : (Jvm.Cond.instanceMethod ({ cls := "MemoryTransactionsModel", name := "rows", desc := "()I" } : Jvm.MethodName)) ∈ lw_tbl := lw_at lw_m7 126 rfl
theorem q1644 : (Jvm.Cond.selects "MemoryTransactionsModel" ({ cls := "MemoryTransactionsModel", name := "rows", desc := "()I" } : Jvm.MethodName) ({ cls := "MemoryTransactionsModel", name := "rows", desc := "()I" } : Jvm.MethodName)) ∈ lw_tbl := lw_at lw_m7 127 rfl
theorem q1645 : (Jvm.Cond.code ({ cls := "MemoryTransactionsModel", name := "rows", desc := "()I" } : Jvm.MethodName) prog_23_method_67_code (1 : Nat) (Option.some Jvm.ClassFile.FieldType.int)) ∈ lw_tbl := lw_at lw_m7 128 rfl
theorem q1647 : (Jvm.Cond.instanceMethod ({ cls := "MemoryTransactionsModel", name := "row", desc := "(II)I" } : Jvm.MethodName)) ∈ lw_tbl := lw_at lw_m7 130 rfl
theorem q1648 : (Jvm.Cond.selects "MemoryTransactionsModel" ({ cls := "MemoryTransactionsModel", name := "row", desc := "(II)I" } : Jvm.MethodName) ({ cls := "MemoryTransactionsModel", name := "row", desc := "(II)I" } : Jvm.MethodName)) ∈ lw_tbl := lw_at lw_m7 131 rfl
theorem q1649 : (Jvm.Cond.code ({ cls := "MemoryTransactionsModel", name := "row", desc := "(II)I" } : Jvm.MethodName) prog_23_method_68_code (3 : Nat) (Option.some Jvm.ClassFile.FieldType.int)) ∈ lw_tbl := lw_at lw_m7 132 rfl
theorem q1651 : (Jvm.Cond.instanceMethod ({ cls := "MemoryTransactionsModel", name := "value", desc := "(I)J" } : Jvm.MethodName)) ∈ lw_tbl := lw_at lw_m7 134 rfl
theorem q1652 : (Jvm.Cond.selects "MemoryTransactionsModel" ({ cls := "MemoryTransactionsModel", name := "value", desc := "(I)J" } : Jvm.MethodName) ({ cls := "MemoryTransactionsModel", name := "value", desc := "(I)J" } : Jvm.MethodName)) ∈ lw_tbl := lw_at lw_m7 135 rfl
theorem q1653 : (Jvm.Cond.code ({ cls := "MemoryTransactionsModel", name := "value", desc := "(I)J" } : Jvm.MethodName) prog_23_method_69_code (2 : Nat) (Option.some Jvm.ClassFile.FieldType.long)) ∈ lw_tbl := lw_at lw_m7 136 rfl
theorem q1655 : (Jvm.Cond.instanceMethod ({ cls := "MemoryTransactionsModel", name := "replays", desc := "()I" } : Jvm.MethodName)) ∈ lw_tbl := lw_at lw_m7 138 rfl
theorem q1656 : (Jvm.Cond.selects "MemoryTransactionsModel" ({ cls := "MemoryTransactionsModel", name := "replays", desc := "()I" } : Jvm.MethodName) ({ cls := "MemoryTransactionsModel", name := "replays", desc := "()I" } : Jvm.MethodName)) ∈ lw_tbl := lw_at lw_m7 139 rfl
theorem q1657 : (Jvm.Cond.code ({ cls := "MemoryTransactionsModel", name := "replays", desc := "()I" } : Jvm.MethodName) prog_23_method_71_code (3 : Nat) (Option.some Jvm.ClassFile.FieldType.int)) ∈ lw_tbl := lw_at lw_m7 140 rfl
theorem q1658 : (Jvm.Cond.methodLink "MemoryTransactionsModel" (444 : Nat) ({ cls := "MemoryTransactionsModel", name := "comesToSame", desc := "(I)Z" } : Jvm.MethodName)) ∈ lw_tbl := lw_at lw_m7 141 rfl
theorem q1659 : (Jvm.Cond.privateMethod ({ cls := "MemoryTransactionsModel", name := "comesToSame", desc := "(I)Z" } : Jvm.MethodName)) ∈ lw_tbl := lw_at lw_m7 142 rfl
theorem q1660 : (Jvm.Cond.instanceMethod ({ cls := "MemoryTransactionsModel", name := "comesToSame", desc := "(I)Z" } : Jvm.MethodName)) ∈ lw_tbl := lw_at lw_m7 143 rfl
theorem q1661 : (Jvm.Cond.code ({ cls := "MemoryTransactionsModel", name := "comesToSame", desc := "(I)Z" } : Jvm.MethodName) prog_23_method_70_code (7 : Nat) (Option.some Jvm.ClassFile.FieldType.boolean)) ∈ lw_tbl := lw_at lw_m7 144 rfl
theorem q1662 : (Jvm.Cond.methodLink "MemoryTransactionsModel" (441 : Nat) ({ cls := "MemoryTransactionsModel", name := "beginRun", desc := "(I)V" } : Jvm.MethodName)) ∈ lw_tbl := lw_at lw_m7 145 rfl
theorem q1663 : (Jvm.Cond.privateMethod ({ cls := "MemoryTransactionsModel", name := "beginRun", desc := "(I)V" } : Jvm.MethodName)) ∈ lw_tbl := lw_at lw_m7 146 rfl
theorem q1664 : (Jvm.Cond.instanceMethod ({ cls := "MemoryTransactionsModel", name := "beginRun", desc := "(I)V" } : Jvm.MethodName)) ∈ lw_tbl := lw_at lw_m7 147 rfl
theorem q1665 : (Jvm.Cond.code ({ cls := "MemoryTransactionsModel", name := "beginRun", desc := "(I)V" } : Jvm.MethodName) prog_23_method_33_code (2 : Nat) (Option.none : Option Jvm.ClassFile.FieldType)) ∈ lw_tbl := lw_at lw_m7 148 rfl
theorem q1667 : (Jvm.Cond.instanceMethod ({ cls := "MemoryTransactionsModel", name := "clear", desc := "()I" } : Jvm.MethodName)) ∈ lw_tbl := lw_at lw_m7 150 rfl
theorem q1668 : (Jvm.Cond.selects "MemoryTransactionsModel" ({ cls := "MemoryTransactionsModel", name := "clear", desc := "()I" } : Jvm.MethodName) ({ cls := "MemoryTransactionsModel", name := "clear", desc := "()I" } : Jvm.MethodName)) ∈ lw_tbl := lw_at lw_m7 151 rfl
theorem q1669 : (Jvm.Cond.code ({ cls := "MemoryTransactionsModel", name := "clear", desc := "()I" } : Jvm.MethodName) prog_23_method_72_code (3 : Nat) (Option.some Jvm.ClassFile.FieldType.int)) ∈ lw_tbl := lw_at lw_m7 152 rfl
theorem q98 : (Jvm.Cond.initialized "MemoryTransactions$Program") ∈ lw_tbl := lw_at lw_m1 21 rfl
theorem q551 : (Jvm.Cond.instantiable "MemoryTransactions$Program" (4 : Nat)) ∈ lw_tbl := lw_at lw_m2 234 rfl
theorem q553 : (Jvm.Cond.instanceMethod ({ cls := "MemoryTransactions$Program", name := "<init>", desc := "()V" } : Jvm.MethodName)) ∈ lw_tbl := lw_at lw_m2 236 rfl
theorem q554 : (Jvm.Cond.code ({ cls := "MemoryTransactions$Program", name := "<init>", desc := "()V" } : Jvm.MethodName) prog_11_method_1_code (1 : Nat) (Option.none : Option Jvm.ClassFile.FieldType)) ∈ lw_tbl := lw_at lw_m2 237 rfl
theorem q555 : (Jvm.Cond.methodLink "MemoryTransactions$Program" (1 : Nat) ({ cls := "java/lang/Object", name := "<init>", desc := "()V" } : Jvm.MethodName)) ∈ lw_tbl := lw_at lw_m2 238 rfl
theorem q564 : (Jvm.Cond.lays "MemoryTransactions$Program" "MemoryTransactions$Program" "first" "LMemoryTransactions$Statement;") ∈ lw_tbl := lw_at lw_m3 7 rfl
theorem q565 : (Jvm.Cond.soleField "MemoryTransactions$Program" "first") ∈ lw_tbl := lw_at lw_m3 8 rfl
theorem q566 : (Jvm.Cond.lays "MemoryTransactions$Program" "MemoryTransactions$Program" "statements" "I") ∈ lw_tbl := lw_at lw_m3 9 rfl
theorem q567 : (Jvm.Cond.soleField "MemoryTransactions$Program" "statements") ∈ lw_tbl := lw_at lw_m3 10 rfl
theorem q568 : (Jvm.Cond.lays "MemoryTransactions$Program" "MemoryTransactions$Program" "unaries" "I") ∈ lw_tbl := lw_at lw_m3 11 rfl
theorem q569 : (Jvm.Cond.soleField "MemoryTransactions$Program" "unaries") ∈ lw_tbl := lw_at lw_m3 12 rfl
theorem q570 : (Jvm.Cond.lays "MemoryTransactions$Program" "MemoryTransactions$Program" "deep" "I") ∈ lw_tbl := lw_at lw_m3 13 rfl
theorem q571 : (Jvm.Cond.soleField "MemoryTransactions$Program" "deep") ∈ lw_tbl := lw_at lw_m3 14 rfl
theorem q572 : (Jvm.Cond.superclass "MemoryTransactions$Program" "java/lang/Object") ∈ lw_tbl := lw_at lw_m3 15 rfl
theorem q105 : (Jvm.Cond.initialized "MemoryTransactions$Statement") ∈ lw_tbl := lw_at lw_m1 28 rfl
theorem q689 : (Jvm.Cond.instantiable "MemoryTransactions$Statement" (6 : Nat)) ∈ lw_tbl := lw_at lw_m3 132 rfl
theorem q691 : (Jvm.Cond.instanceMethod ({ cls := "MemoryTransactions$Statement", name := "<init>", desc := "()V" } : Jvm.MethodName)) ∈ lw_tbl := lw_at lw_m3 134 rfl
theorem q692 : (Jvm.Cond.code ({ cls := "MemoryTransactions$Statement", name := "<init>", desc := "()V" } : Jvm.MethodName) prog_18_method_1_code (1 : Nat) (Option.none : Option Jvm.ClassFile.FieldType)) ∈ lw_tbl := lw_at lw_m3 135 rfl
theorem q693 : (Jvm.Cond.methodLink "MemoryTransactions$Statement" (1 : Nat) ({ cls := "java/lang/Object", name := "<init>", desc := "()V" } : Jvm.MethodName)) ∈ lw_tbl := lw_at lw_m3 136 rfl
theorem q706 : (Jvm.Cond.lays "MemoryTransactions$Statement" "MemoryTransactions$Statement" "act" "LMemoryTransactions$Act;") ∈ lw_tbl := lw_at lw_m3 149 rfl
theorem q707 : (Jvm.Cond.soleField "MemoryTransactions$Statement" "act") ∈ lw_tbl := lw_at lw_m3 150 rfl
theorem q708 : (Jvm.Cond.lays "MemoryTransactions$Statement" "MemoryTransactions$Statement" "letter" "I") ∈ lw_tbl := lw_at lw_m3 151 rfl
theorem q709 : (Jvm.Cond.soleField "MemoryTransactions$Statement" "letter") ∈ lw_tbl := lw_at lw_m3 152 rfl
theorem q710 : (Jvm.Cond.lays "MemoryTransactions$Statement" "MemoryTransactions$Statement" "exp" "LMemoryTransactions$Exp;") ∈ lw_tbl := lw_at lw_m3 153 rfl
theorem q711 : (Jvm.Cond.soleField "MemoryTransactions$Statement" "exp") ∈ lw_tbl := lw_at lw_m3 154 rfl
theorem q712 : (Jvm.Cond.lays "MemoryTransactions$Statement" "MemoryTransactions$Statement" "first" "LMemoryTransactions$Statement;") ∈ lw_tbl := lw_at lw_m3 155 rfl
theorem q713 : (Jvm.Cond.soleField "MemoryTransactions$Statement" "first") ∈ lw_tbl := lw_at lw_m3 156 rfl
theorem q714 : (Jvm.Cond.lays "MemoryTransactions$Statement" "MemoryTransactions$Statement" "second" "LMemoryTransactions$Statement;") ∈ lw_tbl := lw_at lw_m3 157 rfl
theorem q715 : (Jvm.Cond.soleField "MemoryTransactions$Statement" "second") ∈ lw_tbl := lw_at lw_m3 158 rfl
theorem q716 : (Jvm.Cond.lays "MemoryTransactions$Statement" "MemoryTransactions$Statement" "next" "LMemoryTransactions$Statement;") ∈ lw_tbl := lw_at lw_m3 159 rfl
theorem q717 : (Jvm.Cond.soleField "MemoryTransactions$Statement" "next") ∈ lw_tbl := lw_at lw_m3 160 rfl
theorem q718 : (Jvm.Cond.superclass "MemoryTransactions$Statement" "java/lang/Object") ∈ lw_tbl := lw_at lw_m3 161 rfl
theorem q107 : (Jvm.Cond.initialized "MemoryTransactions$Exp") ∈ lw_tbl := lw_at lw_m1 30 rfl
theorem q742 : (Jvm.Cond.instantiable "MemoryTransactions$Exp" (5 : Nat)) ∈ lw_tbl := lw_at lw_m3 185 rfl
theorem q744 : (Jvm.Cond.instanceMethod ({ cls := "MemoryTransactions$Exp", name := "<init>", desc := "()V" } : Jvm.MethodName)) ∈ lw_tbl := lw_at lw_m3 187 rfl
theorem q745 : (Jvm.Cond.code ({ cls := "MemoryTransactions$Exp", name := "<init>", desc := "()V" } : Jvm.MethodName) prog_5_method_1_code (1 : Nat) (Option.none : Option Jvm.ClassFile.FieldType)) ∈ lw_tbl := lw_at lw_m3 188 rfl
theorem q746 : (Jvm.Cond.methodLink "MemoryTransactions$Exp" (1 : Nat) ({ cls := "java/lang/Object", name := "<init>", desc := "()V" } : Jvm.MethodName)) ∈ lw_tbl := lw_at lw_m3 189 rfl
theorem q757 : (Jvm.Cond.lays "MemoryTransactions$Exp" "MemoryTransactions$Exp" "op" "C") ∈ lw_tbl := lw_at lw_m3 200 rfl
theorem q758 : (Jvm.Cond.soleField "MemoryTransactions$Exp" "op") ∈ lw_tbl := lw_at lw_m3 201 rfl
theorem q759 : (Jvm.Cond.lays "MemoryTransactions$Exp" "MemoryTransactions$Exp" "number" "J") ∈ lw_tbl := lw_at lw_m3 202 rfl
theorem q760 : (Jvm.Cond.soleField "MemoryTransactions$Exp" "number") ∈ lw_tbl := lw_at lw_m3 203 rfl
theorem q761 : (Jvm.Cond.lays "MemoryTransactions$Exp" "MemoryTransactions$Exp" "letter" "I") ∈ lw_tbl := lw_at lw_m3 204 rfl
theorem q762 : (Jvm.Cond.soleField "MemoryTransactions$Exp" "letter") ∈ lw_tbl := lw_at lw_m3 205 rfl
theorem q763 : (Jvm.Cond.lays "MemoryTransactions$Exp" "MemoryTransactions$Exp" "left" "LMemoryTransactions$Exp;") ∈ lw_tbl := lw_at lw_m3 206 rfl
theorem q764 : (Jvm.Cond.soleField "MemoryTransactions$Exp" "left") ∈ lw_tbl := lw_at lw_m3 207 rfl
theorem q765 : (Jvm.Cond.lays "MemoryTransactions$Exp" "MemoryTransactions$Exp" "right" "LMemoryTransactions$Exp;") ∈ lw_tbl := lw_at lw_m3 208 rfl
theorem q766 : (Jvm.Cond.soleField "MemoryTransactions$Exp" "right") ∈ lw_tbl := lw_at lw_m3 209 rfl
theorem q767 : (Jvm.Cond.superclass "MemoryTransactions$Exp" "java/lang/Object") ∈ lw_tbl := lw_at lw_m3 210 rfl
theorem q80 : (Jvm.Cond.initialized "java/lang/Throwable") ∈ lw_tbl := lw_at lw_m1 3 rfl
theorem q132 : (Jvm.Cond.declares ({ cls := "java/lang/Throwable", name := "<init>", desc := "()V" } : Jvm.MethodName)) ∈ lw_tbl := lw_at lw_m1 55 rfl
theorem q133 : (Jvm.Cond.declares ({ cls := "java/lang/Throwable", name := "<init>", desc := "(Ljava/lang/String;)V" } : Jvm.MethodName)) ∈ lw_tbl := lw_at lw_m1 56 rfl
theorem q137 : (Jvm.Cond.lays "java/lang/Throwable" "java/lang/Throwable" "cause" "Ljava/lang/Throwable;") ∈ lw_tbl := lw_at lw_m1 60 rfl
theorem q139 : (Jvm.Cond.lays "java/lang/Throwable" "java/lang/Throwable" "stackTrace" "[Ljava/lang/StackTraceElement;") ∈ lw_tbl := lw_at lw_m1 62 rfl
theorem q141 : (Jvm.Cond.lays "java/lang/Throwable" "java/lang/Throwable" "suppressedExceptions" "Ljava/util/List;") ∈ lw_tbl := lw_at lw_m1 64 rfl
theorem q143 : (Jvm.Cond.lays "java/lang/Throwable" "java/lang/Throwable" "detailMessage" "Ljava/lang/String;") ∈ lw_tbl := lw_at lw_m1 66 rfl
theorem q145 : (Jvm.Cond.lays "java/lang/Throwable" "java/lang/Throwable" "backtrace" "Ljava/lang/Object;") ∈ lw_tbl := lw_at lw_m1 68 rfl
theorem q146 : (Jvm.Cond.fieldLink "java/lang/Throwable" (198 : Nat) "java/lang/Throwable" "backtrace" "Ljava/lang/Object;") ∈ lw_tbl := lw_at lw_m1 69 rfl
theorem q147 : (Jvm.Cond.superclass "java/lang/Throwable" "java/lang/Object") ∈ lw_tbl := lw_at lw_m1 70 rfl
theorem q148 : (Jvm.Cond.instanceMethod ({ cls := "java/lang/Throwable", name := "<init>", desc := "()V" } : Jvm.MethodName)) ∈ lw_tbl := lw_at lw_m1 71 rfl
theorem q149 : (Jvm.Cond.code ({ cls := "java/lang/Throwable", name := "<init>", desc := "()V" } : Jvm.MethodName) prog_33_method_1_code (1 : Nat) (Option.none : Option Jvm.ClassFile.FieldType)) ∈ lw_tbl := lw_at lw_m1 72 rfl
theorem q150 : (Jvm.Cond.methodLink "java/lang/Throwable" (1 : Nat) ({ cls := "java/lang/Object", name := "<init>", desc := "()V" } : Jvm.MethodName)) ∈ lw_tbl := lw_at lw_m1 73 rfl
theorem q151 : (Jvm.Cond.fieldLink "java/lang/Throwable" (13 : Nat) "java/lang/Throwable" "UNASSIGNED_STACK" "[Ljava/lang/StackTraceElement;") ∈ lw_tbl := lw_at lw_m1 74 rfl
theorem q152 : (Jvm.Cond.laysStatic "java/lang/Throwable" "UNASSIGNED_STACK" "[Ljava/lang/StackTraceElement;") ∈ lw_tbl := lw_at lw_m1 75 rfl
theorem q153 : (Jvm.Cond.fieldLink "java/lang/Throwable" (20 : Nat) "java/lang/Throwable" "SUPPRESSED_SENTINEL" "Ljava/util/List;") ∈ lw_tbl := lw_at lw_m1 76 rfl
theorem q154 : (Jvm.Cond.laysStatic "java/lang/Throwable" "SUPPRESSED_SENTINEL" "Ljava/util/List;") ∈ lw_tbl := lw_at lw_m1 77 rfl
theorem q155 : (Jvm.Cond.methodLink "java/lang/Throwable" (27 : Nat) ({ cls := "java/lang/Throwable", name := "fillInStackTrace", desc := "()Ljava/lang/Throwable;" } : Jvm.MethodName)) ∈ lw_tbl := lw_at lw_m1 78 rfl
theorem q156 : (Jvm.Cond.instanceMethod ({ cls := "java/lang/Throwable", name := "fillInStackTrace", desc := "()Ljava/lang/Throwable;" } : Jvm.MethodName)) ∈ lw_tbl := lw_at lw_m1 79 rfl
theorem q157 : (Jvm.Cond.sameMethod "java/lang/Throwable" "java/lang/Throwable" "fillInStackTrace" "()Ljava/lang/Throwable;") ∈ lw_tbl := lw_at lw_m1 80 rfl
theorem q160 : (Jvm.Cond.codeSync ({ cls := "java/lang/Throwable", name := "fillInStackTrace", desc := "()Ljava/lang/Throwable;" } : Jvm.MethodName) prog_33_method_18_code (1 : Nat) (Option.some (Jvm.ClassFile.FieldType.object "java/lang/Throwable"))) ∈ lw_tbl := lw_at lw_m1 83 rfl
theorem q161 : (Jvm.Cond.methodLink "java/lang/Throwable" (202 : Nat) ({ cls := "java/lang/Throwable", name := "fillInStackTrace", desc := "(I)Ljava/lang/Throwable;" } : Jvm.MethodName)) ∈ lw_tbl := lw_at lw_m1 84 rfl
theorem q162 : (Jvm.Cond.privateMethod ({ cls := "java/lang/Throwable", name := "fillInStackTrace", desc := "(I)Ljava/lang/Throwable;" } : Jvm.MethodName)) ∈ lw_tbl := lw_at lw_m1 85 rfl
theorem q163 : (Jvm.Cond.instanceMethod ({ cls := "java/lang/Throwable", name := "fillInStackTrace", desc := "(I)Ljava/lang/Throwable;" } : Jvm.MethodName)) ∈ lw_tbl := lw_at lw_m1 86 rfl
theorem q164 : (Jvm.Cond.instantiable "java/lang/Throwable" (6 : Nat)) ∈ lw_tbl := lw_at lw_m1 87 rfl
theorem q165 : (Jvm.Cond.native ({ cls := "java/lang/Throwable", name := "fillInStackTrace", desc := "(I)Ljava/lang/Throwable;" } : Jvm.MethodName)) ∈ lw_tbl := lw_at lw_m1 88 rfl
theorem q177 : (Jvm.Cond.instanceMethod ({ cls := "java/lang/Throwable", name := "<init>", desc := "(Ljava/lang/String;Ljava/lang/Throwable;ZZ)V" } : Jvm.MethodName)) ∈ lw_tbl := lw_at lw_m1 100 rfl
theorem q178 : (Jvm.Cond.code ({ cls := "java/lang/Throwable", name := "<init>", desc := "(Ljava/lang/String;Ljava/lang/Throwable;ZZ)V" } : Jvm.MethodName) prog_33_method_5_code (5 : Nat) (Option.none : Option Jvm.ClassFile.FieldType)) ∈ lw_tbl := lw_at lw_m1 101 rfl
theorem q179 : (Jvm.Cond.fieldLink "java/lang/Throwable" (198 : Nat) "java/lang/Throwable" "backtrace" "Ljava/lang/Object;") ∈ lw_tbl := lw_at lw_m1 102 rfl
theorem q180 : (Jvm.Cond.fieldLink "java/lang/Throwable" (31 : Nat) "java/lang/Throwable" "detailMessage" "Ljava/lang/String;") ∈ lw_tbl := lw_at lw_m1 103 rfl
theorem q181 : (Jvm.Cond.fieldLink "java/lang/Throwable" (7 : Nat) "java/lang/Throwable" "cause" "Ljava/lang/Throwable;") ∈ lw_tbl := lw_at lw_m1 104 rfl
theorem q182 : (Jvm.Cond.fieldLink "java/lang/Throwable" (17 : Nat) "java/lang/Throwable" "stackTrace" "[Ljava/lang/StackTraceElement;") ∈ lw_tbl := lw_at lw_m1 105 rfl
theorem q183 : (Jvm.Cond.fieldLink "java/lang/Throwable" (24 : Nat) "java/lang/Throwable" "suppressedExceptions" "Ljava/util/List;") ∈ lw_tbl := lw_at lw_m1 106 rfl
theorem q184 : (Jvm.Cond.soleField "java/lang/Throwable" "backtrace") ∈ lw_tbl := lw_at lw_m1 107 rfl
theorem q185 : (Jvm.Cond.soleField "java/lang/Throwable" "detailMessage") ∈ lw_tbl := lw_at lw_m1 108 rfl
theorem q186 : (Jvm.Cond.soleField "java/lang/Throwable" "cause") ∈ lw_tbl := lw_at lw_m1 109 rfl
theorem q187 : (Jvm.Cond.soleField "java/lang/Throwable" "stackTrace") ∈ lw_tbl := lw_at lw_m1 110 rfl
theorem q189 : (Jvm.Cond.soleField "java/lang/Throwable" "depth") ∈ lw_tbl := lw_at lw_m1 112 rfl
theorem q190 : (Jvm.Cond.soleField "java/lang/Throwable" "suppressedExceptions") ∈ lw_tbl := lw_at lw_m1 113 rfl
theorem q1671 : (Jvm.Cond.sameMethod "java/lang/Throwable" "java/lang/Throwable" "fillInStackTrace" "(I)Ljava/lang/Throwable;") ∈ lw_tbl := lw_at lw_m7 154 rfl
theorem q81 : (Jvm.Cond.initialized "java/lang/Exception") ∈ lw_tbl := lw_at lw_m1 4 rfl
theorem q130 : (Jvm.Cond.declares ({ cls := "java/lang/Exception", name := "<init>", desc := "()V" } : Jvm.MethodName)) ∈ lw_tbl := lw_at lw_m1 53 rfl
theorem q131 : (Jvm.Cond.declares ({ cls := "java/lang/Exception", name := "<init>", desc := "(Ljava/lang/String;)V" } : Jvm.MethodName)) ∈ lw_tbl := lw_at lw_m1 54 rfl
theorem q174 : (Jvm.Cond.instanceMethod ({ cls := "java/lang/Exception", name := "<init>", desc := "(Ljava/lang/String;Ljava/lang/Throwable;ZZ)V" } : Jvm.MethodName)) ∈ lw_tbl := lw_at lw_m1 97 rfl
theorem q175 : (Jvm.Cond.code ({ cls := "java/lang/Exception", name := "<init>", desc := "(Ljava/lang/String;Ljava/lang/Throwable;ZZ)V" } : Jvm.MethodName) prog_26_method_5_code (5 : Nat) (Option.none : Option Jvm.ClassFile.FieldType)) ∈ lw_tbl := lw_at lw_m1 98 rfl
theorem q176 : (Jvm.Cond.methodLink "java/lang/Exception" (16 : Nat) ({ cls := "java/lang/Throwable", name := "<init>", desc := "(Ljava/lang/String;Ljava/lang/Throwable;ZZ)V" } : Jvm.MethodName)) ∈ lw_tbl := lw_at lw_m1 99 rfl
theorem q82 : (Jvm.Cond.initialized "java/lang/RuntimeException") ∈ lw_tbl := lw_at lw_m1 5 rfl
theorem q128 : (Jvm.Cond.declares ({ cls := "java/lang/RuntimeException", name := "<init>", desc := "()V" } : Jvm.MethodName)) ∈ lw_tbl := lw_at lw_m1 51 rfl
theorem q129 : (Jvm.Cond.declares ({ cls := "java/lang/RuntimeException", name := "<init>", desc := "(Ljava/lang/String;)V" } : Jvm.MethodName)) ∈ lw_tbl := lw_at lw_m1 52 rfl
theorem q171 : (Jvm.Cond.instanceMethod ({ cls := "java/lang/RuntimeException", name := "<init>", desc := "(Ljava/lang/String;Ljava/lang/Throwable;ZZ)V" } : Jvm.MethodName)) ∈ lw_tbl := lw_at lw_m1 94 rfl
theorem q172 : (Jvm.Cond.code ({ cls := "java/lang/RuntimeException", name := "<init>", desc := "(Ljava/lang/String;Ljava/lang/Throwable;ZZ)V" } : Jvm.MethodName) prog_28_method_5_code (5 : Nat) (Option.none : Option Jvm.ClassFile.FieldType)) ∈ lw_tbl := lw_at lw_m1 95 rfl
theorem q173 : (Jvm.Cond.methodLink "java/lang/RuntimeException" (16 : Nat) ({ cls := "java/lang/Exception", name := "<init>", desc := "(Ljava/lang/String;Ljava/lang/Throwable;ZZ)V" } : Jvm.MethodName)) ∈ lw_tbl := lw_at lw_m1 96 rfl
theorem q94 : (Jvm.Cond.initialized "java/lang/Enum") ∈ lw_tbl := lw_at lw_m1 17 rfl
theorem q946 : (Jvm.Cond.declares ({ cls := "java/lang/Enum", name := "ordinal", desc := "()I" } : Jvm.MethodName)) ∈ lw_tbl := lw_at lw_m4 149 rfl
theorem q948 : (Jvm.Cond.instanceMethod ({ cls := "java/lang/Enum", name := "ordinal", desc := "()I" } : Jvm.MethodName)) ∈ lw_tbl := lw_at lw_m4 151 rfl
theorem q949 : (Jvm.Cond.code ({ cls := "java/lang/Enum", name := "ordinal", desc := "()I" } : Jvm.MethodName) prog_25_method_2_code (1 : Nat) (Option.some Jvm.ClassFile.FieldType.int)) ∈ lw_tbl := lw_at lw_m4 152 rfl
theorem q1674 : (Jvm.Cond.fieldLink "java/lang/Enum" (7 : Nat) "java/lang/Enum" "ordinal" "I") ∈ lw_tbl := lw_at lw_m7 157 rfl
theorem q99 : (Jvm.Cond.initialized "java/lang/String") ∈ lw_tbl := lw_at lw_m1 22 rfl
theorem q591 : (Jvm.Cond.instanceMethod ({ cls := "java/lang/String", name := "indexOf", desc := "(I)I" } : Jvm.MethodName)) ∈ lw_tbl := lw_at lw_m3 34 rfl
theorem q592 : (Jvm.Cond.selects "java/lang/String" ({ cls := "java/lang/String", name := "indexOf", desc := "(I)I" } : Jvm.MethodName) ({ cls := "java/lang/String", name := "indexOf", desc := "(I)I" } : Jvm.MethodName)) ∈ lw_tbl := lw_at lw_m3 35 rfl
theorem q593 : (Jvm.Cond.code ({ cls := "java/lang/String", name := "indexOf", desc := "(I)I" } : Jvm.MethodName) prog_29_method_79_code (2 : Nat) (Option.some Jvm.ClassFile.FieldType.int)) ∈ lw_tbl := lw_at lw_m3 36 rfl
theorem q594 : (Jvm.Cond.methodLink "java/lang/String" (633 : Nat) ({ cls := "java/lang/String", name := "indexOf", desc := "(II)I" } : Jvm.MethodName)) ∈ lw_tbl := lw_at lw_m3 37 rfl
theorem q595 : (Jvm.Cond.instanceMethod ({ cls := "java/lang/String", name := "indexOf", desc := "(II)I" } : Jvm.MethodName)) ∈ lw_tbl := lw_at lw_m3 38 rfl
theorem q596 : (Jvm.Cond.selects "java/lang/String" ({ cls := "java/lang/String", name := "indexOf", desc := "(II)I" } : Jvm.MethodName) ({ cls := "java/lang/String", name := "indexOf", desc := "(II)I" } : Jvm.MethodName)) ∈ lw_tbl := lw_at lw_m3 39 rfl
theorem q597 : (Jvm.Cond.code ({ cls := "java/lang/String", name := "indexOf", desc := "(II)I" } : Jvm.MethodName) prog_29_method_80_code (3 : Nat) (Option.some Jvm.ClassFile.FieldType.int)) ∈ lw_tbl := lw_at lw_m3 40 rfl
theorem q598 : (Jvm.Cond.methodLink "java/lang/String" (492 : Nat) ({ cls := "java/lang/String", name := "isLatin1", desc := "()Z" } : Jvm.MethodName)) ∈ lw_tbl := lw_at lw_m3 41 rfl
theorem q599 : (Jvm.Cond.instanceMethod ({ cls := "java/lang/String", name := "isLatin1", desc := "()Z" } : Jvm.MethodName)) ∈ lw_tbl := lw_at lw_m3 42 rfl
theorem q600 : (Jvm.Cond.selects "java/lang/String" ({ cls := "java/lang/String", name := "isLatin1", desc := "()Z" } : Jvm.MethodName) ({ cls := "java/lang/String", name := "isLatin1", desc := "()Z" } : Jvm.MethodName)) ∈ lw_tbl := lw_at lw_m3 43 rfl
theorem q601 : (Jvm.Cond.code ({ cls := "java/lang/String", name := "isLatin1", desc := "()Z" } : Jvm.MethodName) prog_29_method_154_code (1 : Nat) (Option.some Jvm.ClassFile.FieldType.boolean)) ∈ lw_tbl := lw_at lw_m3 44 rfl
theorem q602 : (Jvm.Cond.fieldLink "java/lang/String" (38 : Nat) "java/lang/String" "COMPACT_STRINGS" "Z") ∈ lw_tbl := lw_at lw_m3 45 rfl
theorem q603 : (Jvm.Cond.laysStatic "java/lang/String" "COMPACT_STRINGS" "Z") ∈ lw_tbl := lw_at lw_m3 46 rfl
theorem q604 : (Jvm.Cond.methodLink "java/lang/String" (505 : Nat) ({ cls := "java/lang/String", name := "length", desc := "()I" } : Jvm.MethodName)) ∈ lw_tbl := lw_at lw_m3 47 rfl
theorem q605 : (Jvm.Cond.instanceMethod ({ cls := "java/lang/String", name := "length", desc := "()I" } : Jvm.MethodName)) ∈ lw_tbl := lw_at lw_m3 48 rfl
theorem q606 : (Jvm.Cond.selects "java/lang/String" ({ cls := "java/lang/String", name := "length", desc := "()I" } : Jvm.MethodName) ({ cls := "java/lang/String", name := "length", desc := "()I" } : Jvm.MethodName)) ∈ lw_tbl := lw_at lw_m3 49 rfl
theorem q607 : (Jvm.Cond.code ({ cls := "java/lang/String", name := "length", desc := "()I" } : Jvm.MethodName) prog_29_method_54_code (1 : Nat) (Option.some Jvm.ClassFile.FieldType.int)) ∈ lw_tbl := lw_at lw_m3 50 rfl
theorem q608 : (Jvm.Cond.methodLink "java/lang/String" (335 : Nat) ({ cls := "java/lang/String", name := "coder", desc := "()B" } : Jvm.MethodName)) ∈ lw_tbl := lw_at lw_m3 51 rfl
theorem q609 : (Jvm.Cond.instanceMethod ({ cls := "java/lang/String", name := "coder", desc := "()B" } : Jvm.MethodName)) ∈ lw_tbl := lw_at lw_m3 52 rfl
theorem q610 : (Jvm.Cond.selects "java/lang/String" ({ cls := "java/lang/String", name := "coder", desc := "()B" } : Jvm.MethodName) ({ cls := "java/lang/String", name := "coder", desc := "()B" } : Jvm.MethodName)) ∈ lw_tbl := lw_at lw_m3 53 rfl
theorem q611 : (Jvm.Cond.code ({ cls := "java/lang/String", name := "coder", desc := "()B" } : Jvm.MethodName) prog_29_method_152_code (1 : Nat) (Option.some Jvm.ClassFile.FieldType.byte)) ∈ lw_tbl := lw_at lw_m3 54 rfl
theorem q612 : (Jvm.Cond.methodLink "java/lang/String" (637 : Nat) ({ cls := "java/lang/StringLatin1", name := "indexOf", desc := "([BIII)I" } : Jvm.MethodName)) ∈ lw_tbl := lw_at lw_m3 55 rfl
theorem q627 : (Jvm.Cond.methodLink "java/lang/String" (640 : Nat) ({ cls := "java/lang/StringUTF16", name := "indexOf", desc := "([BIII)I" } : Jvm.MethodName)) ∈ lw_tbl := lw_at lw_m3 70 rfl
theorem q643 : (Jvm.Cond.static ({ cls := "java/lang/String", name := "checkBoundsBeginEnd", desc := "(III)V" } : Jvm.MethodName)) ∈ lw_tbl := lw_at lw_m3 86 rfl
theorem q644 : (Jvm.Cond.code ({ cls := "java/lang/String", name := "checkBoundsBeginEnd", desc := "(III)V" } : Jvm.MethodName) prog_29_method_158_code (3 : Nat) (Option.none : Option Jvm.ClassFile.FieldType)) ∈ lw_tbl := lw_at lw_m3 87 rfl
theorem q645 : (Jvm.Cond.fieldLink "java/lang/String" (1053 : Nat) "jdk/internal/util/Preconditions" "SIOOBE_FORMATTER" "Ljava/util/function/BiFunction;") ∈ lw_tbl := lw_at lw_m3 88 rfl
theorem q647 : (Jvm.Cond.methodLink "java/lang/String" (1062 : Nat) ({ cls := "jdk/internal/util/Preconditions", name := "checkFromToIndex", desc := "(IIILjava/util/function/BiFunction;)I" } : Jvm.MethodName)) ∈ lw_tbl := lw_at lw_m3 90 rfl
theorem q783 : (Jvm.Cond.instanceMethod ({ cls := "java/lang/String", name := "charAt", desc := "(I)C" } : Jvm.MethodName)) ∈ lw_tbl := lw_at lw_m3 226 rfl
theorem q784 : (Jvm.Cond.selects "java/lang/String" ({ cls := "java/lang/String", name := "charAt", desc := "(I)C" } : Jvm.MethodName) ({ cls := "java/lang/String", name := "charAt", desc := "(I)C" } : Jvm.MethodName)) ∈ lw_tbl := lw_at lw_m3 227 rfl
theorem q785 : (Jvm.Cond.code ({ cls := "java/lang/String", name := "charAt", desc := "(I)C" } : Jvm.MethodName) prog_29_method_56_code (2 : Nat) (Option.some Jvm.ClassFile.FieldType.char)) ∈ lw_tbl := lw_at lw_m3 228 rfl
theorem q786 : (Jvm.Cond.methodLink "java/lang/String" (495 : Nat) ({ cls := "java/lang/StringLatin1", name := "charAt", desc := "([BI)C" } : Jvm.MethodName)) ∈ lw_tbl := lw_at lw_m3 229 rfl
theorem q790 : (Jvm.Cond.static ({ cls := "java/lang/String", name := "checkIndex", desc := "(II)V" } : Jvm.MethodName)) ∈ lw_tbl := lw_at lw_m3 233 rfl
theorem q791 : (Jvm.Cond.code ({ cls := "java/lang/String", name := "checkIndex", desc := "(II)V" } : Jvm.MethodName) prog_29_method_155_code (2 : Nat) (Option.none : Option Jvm.ClassFile.FieldType)) ∈ lw_tbl := lw_at lw_m3 234 rfl
theorem q792 : (Jvm.Cond.methodLink "java/lang/String" (1059 : Nat) ({ cls := "jdk/internal/util/Preconditions", name := "checkIndex", desc := "(IILjava/util/function/BiFunction;)I" } : Jvm.MethodName)) ∈ lw_tbl := lw_at lw_m3 235 rfl
theorem q795 : (Jvm.Cond.methodLink "java/lang/String" (498 : Nat) ({ cls := "java/lang/StringUTF16", name := "charAt", desc := "([BI)C" } : Jvm.MethodName)) ∈ lw_tbl := lw_at lw_m3 238 rfl
theorem q1672 : (Jvm.Cond.fieldLink "java/lang/String" (15 : Nat) "java/lang/String" "coder" "B") ∈ lw_tbl := lw_at lw_m7 155 rfl
theorem q1673 : (Jvm.Cond.fieldLink "java/lang/String" (9 : Nat) "java/lang/String" "value" "[B") ∈ lw_tbl := lw_at lw_m7 156 rfl
theorem q100 : (Jvm.Cond.initialized "java/lang/StringLatin1") ∈ lw_tbl := lw_at lw_m1 23 rfl
theorem q613 : (Jvm.Cond.static ({ cls := "java/lang/StringLatin1", name := "indexOf", desc := "([BIII)I" } : Jvm.MethodName)) ∈ lw_tbl := lw_at lw_m3 56 rfl
theorem q614 : (Jvm.Cond.code ({ cls := "java/lang/StringLatin1", name := "indexOf", desc := "([BIII)I" } : Jvm.MethodName) prog_30_method_22_code (4 : Nat) (Option.some Jvm.ClassFile.FieldType.int)) ∈ lw_tbl := lw_at lw_m3 57 rfl
theorem q615 : (Jvm.Cond.methodLink "java/lang/StringLatin1" (88 : Nat) ({ cls := "java/lang/StringLatin1", name := "canEncode", desc := "(I)Z" } : Jvm.MethodName)) ∈ lw_tbl := lw_at lw_m3 58 rfl
theorem q616 : (Jvm.Cond.static ({ cls := "java/lang/StringLatin1", name := "canEncode", desc := "(I)Z" } : Jvm.MethodName)) ∈ lw_tbl := lw_at lw_m3 59 rfl
theorem q617 : (Jvm.Cond.code ({ cls := "java/lang/StringLatin1", name := "canEncode", desc := "(I)Z" } : Jvm.MethodName) prog_30_method_4_code (1 : Nat) (Option.some Jvm.ClassFile.FieldType.boolean)) ∈ lw_tbl := lw_at lw_m3 60 rfl
theorem q618 : (Jvm.Cond.methodLink "java/lang/StringLatin1" (92 : Nat) ({ cls := "java/lang/Math", name := "max", desc := "(II)I" } : Jvm.MethodName)) ∈ lw_tbl := lw_at lw_m3 61 rfl
theorem q621 : (Jvm.Cond.methodLink "java/lang/StringLatin1" (38 : Nat) ({ cls := "java/lang/Math", name := "min", desc := "(II)I" } : Jvm.MethodName)) ∈ lw_tbl := lw_at lw_m3 64 rfl
theorem q624 : (Jvm.Cond.methodLink "java/lang/StringLatin1" (95 : Nat) ({ cls := "java/lang/StringLatin1", name := "indexOfChar", desc := "([BIII)I" } : Jvm.MethodName)) ∈ lw_tbl := lw_at lw_m3 67 rfl
theorem q625 : (Jvm.Cond.static ({ cls := "java/lang/StringLatin1", name := "indexOfChar", desc := "([BIII)I" } : Jvm.MethodName)) ∈ lw_tbl := lw_at lw_m3 68 rfl
theorem q626 : (Jvm.Cond.code ({ cls := "java/lang/StringLatin1", name := "indexOfChar", desc := "([BIII)I" } : Jvm.MethodName) prog_30_method_23_code (6 : Nat) (Option.some Jvm.ClassFile.FieldType.int)) ∈ lw_tbl := lw_at lw_m3 69 rfl
theorem q787 : (Jvm.Cond.static ({ cls := "java/lang/StringLatin1", name := "charAt", desc := "([BI)C" } : Jvm.MethodName)) ∈ lw_tbl := lw_at lw_m3 230 rfl
theorem q788 : (Jvm.Cond.code ({ cls := "java/lang/StringLatin1", name := "charAt", desc := "([BI)C" } : Jvm.MethodName) prog_30_method_2_code (2 : Nat) (Option.some Jvm.ClassFile.FieldType.char)) ∈ lw_tbl := lw_at lw_m3 231 rfl
theorem q789 : (Jvm.Cond.methodLink "java/lang/StringLatin1" (9 : Nat) ({ cls := "java/lang/String", name := "checkIndex", desc := "(II)V" } : Jvm.MethodName)) ∈ lw_tbl := lw_at lw_m3 232 rfl
theorem q101 : (Jvm.Cond.initialized "java/lang/Math") ∈ lw_tbl := lw_at lw_m1 24 rfl
theorem q619 : (Jvm.Cond.static ({ cls := "java/lang/Math", name := "max", desc := "(II)I" } : Jvm.MethodName)) ∈ lw_tbl := lw_at lw_m3 62 rfl
theorem q620 : (Jvm.Cond.code ({ cls := "java/lang/Math", name := "max", desc := "(II)I" } : Jvm.MethodName) prog_27_method_65_code (2 : Nat) (Option.some Jvm.ClassFile.FieldType.int)) ∈ lw_tbl := lw_at lw_m3 63 rfl
theorem q622 : (Jvm.Cond.static ({ cls := "java/lang/Math", name := "min", desc := "(II)I" } : Jvm.MethodName)) ∈ lw_tbl := lw_at lw_m3 65 rfl
theorem q623 : (Jvm.Cond.code ({ cls := "java/lang/Math", name := "min", desc := "(II)I" } : Jvm.MethodName) prog_27_method_69_code (2 : Nat) (Option.some Jvm.ClassFile.FieldType.int)) ∈ lw_tbl := lw_at lw_m3 66 rfl
theorem q102 : (Jvm.Cond.initialized "java/lang/StringUTF16") ∈ lw_tbl := lw_at lw_m1 25 rfl
theorem q628 : (Jvm.Cond.static ({ cls := "java/lang/StringUTF16", name := "indexOf", desc := "([BIII)I" } : Jvm.MethodName)) ∈ lw_tbl := lw_at lw_m3 71 rfl
theorem q629 : (Jvm.Cond.code ({ cls := "java/lang/StringUTF16", name := "indexOf", desc := "([BIII)I" } : Jvm.MethodName) prog_31_method_40_code (4 : Nat) (Option.some Jvm.ClassFile.FieldType.int)) ∈ lw_tbl := lw_at lw_m3 72 rfl
theorem q630 : (Jvm.Cond.methodLink "java/lang/StringUTF16" (224 : Nat) ({ cls := "java/lang/Math", name := "max", desc := "(II)I" } : Jvm.MethodName)) ∈ lw_tbl := lw_at lw_m3 73 rfl
theorem q631 : (Jvm.Cond.methodLink "java/lang/StringUTF16" (183 : Nat) ({ cls := "java/lang/Math", name := "min", desc := "(II)I" } : Jvm.MethodName)) ∈ lw_tbl := lw_at lw_m3 74 rfl
theorem q632 : (Jvm.Cond.constant "java/lang/StringUTF16" (227 : Nat) (65536 : Int32)) ∈ lw_tbl := lw_at lw_m3 75 rfl
theorem q633 : (Jvm.Cond.methodLink "java/lang/StringUTF16" (228 : Nat) ({ cls := "java/lang/StringUTF16", name := "indexOfChar", desc := "([BIII)I" } : Jvm.MethodName)) ∈ lw_tbl := lw_at lw_m3 76 rfl
theorem q634 : (Jvm.Cond.static ({ cls := "java/lang/StringUTF16", name := "indexOfChar", desc := "([BIII)I" } : Jvm.MethodName)) ∈ lw_tbl := lw_at lw_m3 77 rfl
theorem q635 : (Jvm.Cond.code ({ cls := "java/lang/StringUTF16", name := "indexOfChar", desc := "([BIII)I" } : Jvm.MethodName) prog_31_method_47_code (4 : Nat) (Option.some Jvm.ClassFile.FieldType.int)) ∈ lw_tbl := lw_at lw_m3 78 rfl
theorem q636 : (Jvm.Cond.methodLink "java/lang/StringUTF16" (96 : Nat) ({ cls := "java/lang/StringUTF16", name := "checkBoundsBeginEnd", desc := "(II[B)V" } : Jvm.MethodName)) ∈ lw_tbl := lw_at lw_m3 79 rfl
theorem q637 : (Jvm.Cond.static ({ cls := "java/lang/StringUTF16", name := "checkBoundsBeginEnd", desc := "(II[B)V" } : Jvm.MethodName)) ∈ lw_tbl := lw_at lw_m3 80 rfl
theorem q638 : (Jvm.Cond.code ({ cls := "java/lang/StringUTF16", name := "checkBoundsBeginEnd", desc := "(II[B)V" } : Jvm.MethodName) prog_31_method_93_code (3 : Nat) (Option.none : Option Jvm.ClassFile.FieldType)) ∈ lw_tbl := lw_at lw_m3 81 rfl
theorem q639 : (Jvm.Cond.methodLink "java/lang/StringUTF16" (48 : Nat) ({ cls := "java/lang/StringUTF16", name := "length", desc := "([B)I" } : Jvm.MethodName)) ∈ lw_tbl := lw_at lw_m3 82 rfl
theorem q640 : (Jvm.Cond.static ({ cls := "java/lang/StringUTF16", name := "length", desc := "([B)I" } : Jvm.MethodName)) ∈ lw_tbl := lw_at lw_m3 83 rfl
theorem q641 : (Jvm.Cond.code ({ cls := "java/lang/StringUTF16", name := "length", desc := "([B)I" } : Jvm.MethodName) prog_31_method_6_code (1 : Nat) (Option.some Jvm.ClassFile.FieldType.int)) ∈ lw_tbl := lw_at lw_m3 84 rfl
theorem q642 : (Jvm.Cond.methodLink "java/lang/StringUTF16" (241 : Nat) ({ cls := "java/lang/String", name := "checkBoundsBeginEnd", desc := "(III)V" } : Jvm.MethodName)) ∈ lw_tbl := lw_at lw_m3 85 rfl
theorem q650 : (Jvm.Cond.methodLink "java/lang/StringUTF16" (244 : Nat) ({ cls := "java/lang/StringUTF16", name := "indexOfCharUnsafe", desc := "([BIII)I" } : Jvm.MethodName)) ∈ lw_tbl := lw_at lw_m3 93 rfl
theorem q651 : (Jvm.Cond.static ({ cls := "java/lang/StringUTF16", name := "indexOfCharUnsafe", desc := "([BIII)I" } : Jvm.MethodName)) ∈ lw_tbl := lw_at lw_m3 94 rfl
theorem q652 : (Jvm.Cond.code ({ cls := "java/lang/StringUTF16", name := "indexOfCharUnsafe", desc := "([BIII)I" } : Jvm.MethodName) prog_31_method_48_code (5 : Nat) (Option.some Jvm.ClassFile.FieldType.int)) ∈ lw_tbl := lw_at lw_m3 95 rfl
theorem q653 : (Jvm.Cond.methodLink "java/lang/StringUTF16" (71 : Nat) ({ cls := "java/lang/StringUTF16", name := "getChar", desc := "([BI)C" } : Jvm.MethodName)) ∈ lw_tbl := lw_at lw_m3 96 rfl
theorem q654 : (Jvm.Cond.static ({ cls := "java/lang/StringUTF16", name := "getChar", desc := "([BI)C" } : Jvm.MethodName)) ∈ lw_tbl := lw_at lw_m3 97 rfl
theorem q655 : (Jvm.Cond.code ({ cls := "java/lang/StringUTF16", name := "getChar", desc := "([BI)C" } : Jvm.MethodName) prog_31_method_5_code (2 : Nat) (Option.some Jvm.ClassFile.FieldType.char)) ∈ lw_tbl := lw_at lw_m3 98 rfl
theorem q656 : (Jvm.Cond.fieldLink "java/lang/StringUTF16" (44 : Nat) "java/lang/StringUTF16" "$assertionsDisabled" "Z") ∈ lw_tbl := lw_at lw_m3 99 rfl
theorem q657 : (Jvm.Cond.laysStatic "java/lang/StringUTF16" "$assertionsDisabled" "Z") ∈ lw_tbl := lw_at lw_m3 100 rfl
theorem q658 : (Jvm.Cond.fieldLink "java/lang/StringUTF16" (59 : Nat) "java/lang/StringUTF16" "HI_BYTE_SHIFT" "I") ∈ lw_tbl := lw_at lw_m3 101 rfl
theorem q659 : (Jvm.Cond.laysStatic "java/lang/StringUTF16" "HI_BYTE_SHIFT" "I") ∈ lw_tbl := lw_at lw_m3 102 rfl
theorem q660 : (Jvm.Cond.fieldLink "java/lang/StringUTF16" (63 : Nat) "java/lang/StringUTF16" "LO_BYTE_SHIFT" "I") ∈ lw_tbl := lw_at lw_m3 103 rfl
theorem q661 : (Jvm.Cond.laysStatic "java/lang/StringUTF16" "LO_BYTE_SHIFT" "I") ∈ lw_tbl := lw_at lw_m3 104 rfl
theorem q662 : (Jvm.Cond.methodLink "java/lang/StringUTF16" (232 : Nat) ({ cls := "java/lang/StringUTF16", name := "indexOfSupplementary", desc := "([BIII)I" } : Jvm.MethodName)) ∈ lw_tbl := lw_at lw_m3 105 rfl
theorem q663 : (Jvm.Cond.static ({ cls := "java/lang/StringUTF16", name := "indexOfSupplementary", desc := "([BIII)I" } : Jvm.MethodName)) ∈ lw_tbl := lw_at lw_m3 106 rfl
theorem q664 : (Jvm.Cond.code ({ cls := "java/lang/StringUTF16", name := "indexOfSupplementary", desc := "([BIII)I" } : Jvm.MethodName) prog_31_method_49_code (7 : Nat) (Option.some Jvm.ClassFile.FieldType.int)) ∈ lw_tbl := lw_at lw_m3 107 rfl
theorem q665 : (Jvm.Cond.methodLink "java/lang/StringUTF16" (164 : Nat) ({ cls := "java/lang/Character", name := "isValidCodePoint", desc := "(I)Z" } : Jvm.MethodName)) ∈ lw_tbl := lw_at lw_m3 108 rfl
theorem q668 : (Jvm.Cond.methodLink "java/lang/StringUTF16" (157 : Nat) ({ cls := "java/lang/Character", name := "highSurrogate", desc := "(I)C" } : Jvm.MethodName)) ∈ lw_tbl := lw_at lw_m3 111 rfl
theorem q672 : (Jvm.Cond.methodLink "java/lang/StringUTF16" (161 : Nat) ({ cls := "java/lang/Character", name := "lowSurrogate", desc := "(I)C" } : Jvm.MethodName)) ∈ lw_tbl := lw_at lw_m3 115 rfl
theorem q796 : (Jvm.Cond.static ({ cls := "java/lang/StringUTF16", name := "charAt", desc := "([BI)C" } : Jvm.MethodName)) ∈ lw_tbl := lw_at lw_m3 239 rfl
theorem q797 : (Jvm.Cond.code ({ cls := "java/lang/StringUTF16", name := "charAt", desc := "([BI)C" } : Jvm.MethodName) prog_31_method_83_code (2 : Nat) (Option.some Jvm.ClassFile.FieldType.char)) ∈ lw_tbl := lw_at lw_m4 0 rfl
theorem q798 : (Jvm.Cond.methodLink "java/lang/StringUTF16" (67 : Nat) ({ cls := "java/lang/StringUTF16", name := "checkIndex", desc := "(I[B)V" } : Jvm.MethodName)) ∈ lw_tbl := lw_at lw_m4 1 rfl
theorem q799 : (Jvm.Cond.static ({ cls := "java/lang/StringUTF16", name := "checkIndex", desc := "(I[B)V" } : Jvm.MethodName)) ∈ lw_tbl := lw_at lw_m4 2 rfl
theorem q800 : (Jvm.Cond.code ({ cls := "java/lang/StringUTF16", name := "checkIndex", desc := "(I[B)V" } : Jvm.MethodName) prog_31_method_91_code (2 : Nat) (Option.none : Option Jvm.ClassFile.FieldType)) ∈ lw_tbl := lw_at lw_m4 3 rfl
theorem q801 : (Jvm.Cond.methodLink "java/lang/StringUTF16" (414 : Nat) ({ cls := "java/lang/String", name := "checkIndex", desc := "(II)V" } : Jvm.MethodName)) ∈ lw_tbl := lw_at lw_m4 4 rfl
theorem q103 : (Jvm.Cond.initialized "jdk/internal/util/Preconditions") ∈ lw_tbl := lw_at lw_m1 26 rfl
theorem q646 : (Jvm.Cond.laysStatic "jdk/internal/util/Preconditions" "SIOOBE_FORMATTER" "Ljava/util/function/BiFunction;") ∈ lw_tbl := lw_at lw_m3 89 rfl
theorem q648 : (Jvm.Cond.static ({ cls := "jdk/internal/util/Preconditions", name := "checkFromToIndex", desc := "(IIILjava/util/function/BiFunction;)I" } : Jvm.MethodName)) ∈ lw_tbl := lw_at lw_m3 91 rfl
theorem q649 : (Jvm.Cond.code ({ cls := "jdk/internal/util/Preconditions", name := "checkFromToIndex", desc := "(IIILjava/util/function/BiFunction;)I" } : Jvm.MethodName) prog_35_method_12_code (4 : Nat) (Option.some Jvm.ClassFile.FieldType.int)) ∈ lw_tbl := lw_at lw_m3 92 rfl
theorem q793 : (Jvm.Cond.static ({ cls := "jdk/internal/util/Preconditions", name := "checkIndex", desc := "(IILjava/util/function/BiFunction;)I" } : Jvm.MethodName)) ∈ lw_tbl := lw_at lw_m3 236 rfl
theorem q794 : (Jvm.Cond.code ({ cls := "jdk/internal/util/Preconditions", name := "checkIndex", desc := "(IILjava/util/function/BiFunction;)I" } : Jvm.MethodName) prog_35_method_11_code (3 : Nat) (Option.some Jvm.ClassFile.FieldType.int)) ∈ lw_tbl := lw_at lw_m3 237 rfl
theorem q104 : (Jvm.Cond.initialized "java/lang/Character") ∈ lw_tbl := lw_at lw_m1 27 rfl
theorem q666 : (Jvm.Cond.static ({ cls := "java/lang/Character", name := "isValidCodePoint", desc := "(I)Z" } : Jvm.MethodName)) ∈ lw_tbl := lw_at lw_m3 109 rfl
theorem q667 : (Jvm.Cond.code ({ cls := "java/lang/Character", name := "isValidCodePoint", desc := "(I)Z" } : Jvm.MethodName) prog_24_method_11_code (2 : Nat) (Option.some Jvm.ClassFile.FieldType.boolean)) ∈ lw_tbl := lw_at lw_m3 110 rfl
theorem q669 : (Jvm.Cond.static ({ cls := "java/lang/Character", name := "highSurrogate", desc := "(I)C" } : Jvm.MethodName)) ∈ lw_tbl := lw_at lw_m3 112 rfl
theorem q670 : (Jvm.Cond.code ({ cls := "java/lang/Character", name := "highSurrogate", desc := "(I)C" } : Jvm.MethodName) prog_24_method_28_code (1 : Nat) (Option.some Jvm.ClassFile.FieldType.char)) ∈ lw_tbl := lw_at lw_m3 113 rfl
theorem q671 : (Jvm.Cond.constant "java/lang/Character" (110 : Nat) (55232 : Int32)) ∈ lw_tbl := lw_at lw_m3 114 rfl
theorem q673 : (Jvm.Cond.static ({ cls := "java/lang/Character", name := "lowSurrogate", desc := "(I)C" } : Jvm.MethodName)) ∈ lw_tbl := lw_at lw_m3 116 rfl
theorem q674 : (Jvm.Cond.code ({ cls := "java/lang/Character", name := "lowSurrogate", desc := "(I)C" } : Jvm.MethodName) prog_24_method_29_code (1 : Nat) (Option.some Jvm.ClassFile.FieldType.char)) ∈ lw_tbl := lw_at lw_m3 117 rfl
theorem q675 : (Jvm.Cond.constant "java/lang/Character" (76 : Nat) (56320 : Int32)) ∈ lw_tbl := lw_at lw_m3 118 rfl
theorem q110 : (Jvm.Cond.initialized "java/util/Arrays") ∈ lw_tbl := lw_at lw_m1 33 rfl
theorem q966 : (Jvm.Cond.static ({ cls := "java/util/Arrays", name := "fill", desc := "([JJ)V" } : Jvm.MethodName)) ∈ lw_tbl := lw_at lw_m4 169 rfl
theorem q967 : (Jvm.Cond.code ({ cls := "java/util/Arrays", name := "fill", desc := "([JJ)V" } : Jvm.MethodName) prog_34_method_101_code (5 : Nat) (Option.none : Option Jvm.ClassFile.FieldType)) ∈ lw_tbl := lw_at lw_m4 170 rfl
theorem q1122 : (Jvm.Cond.static ({ cls := "java/util/Arrays", name := "fill", desc := "([II)V" } : Jvm.MethodName)) ∈ lw_tbl := lw_at lw_m5 85 rfl
theorem q1123 : (Jvm.Cond.code ({ cls := "java/util/Arrays", name := "fill", desc := "([II)V" } : Jvm.MethodName) prog_34_method_103_code (4 : Nat) (Option.none : Option Jvm.ClassFile.FieldType)) ∈ lw_tbl := lw_at lw_m5 86 rfl
theorem q117 : (Jvm.Cond.instanceMethod ({ cls := "java/lang/Object", name := "<init>", desc := "()V" } : Jvm.MethodName)) ∈ lw_tbl := lw_at lw_m1 40 rfl
theorem q118 : (Jvm.Cond.code ({ cls := "java/lang/Object", name := "<init>", desc := "()V" } : Jvm.MethodName) object_method_1_code (1 : Nat) (Option.none : Option Jvm.ClassFile.FieldType)) ∈ lw_tbl := lw_at lw_m1 41 rfl
theorem q77 : (Jvm.Cond.initialized "MemoryTransactionsLaw") ∈ lw_tbl := lw_at lw_m1 0 rfl
theorem q111 : (Jvm.Cond.classLink "MemoryTransactionsLaw" (7 : Nat) "MemoryTransactions") ∈ lw_tbl := lw_at lw_m1 34 rfl
theorem q113 : (Jvm.Cond.methodLink "MemoryTransactionsLaw" (9 : Nat) ({ cls := "MemoryTransactions", name := "<init>", desc := "()V" } : Jvm.MethodName)) ∈ lw_tbl := lw_at lw_m1 36 rfl
theorem q527 : (Jvm.Cond.methodLink "MemoryTransactionsLaw" (13 : Nat) ({ cls := "MemoryTransactions", name := "feed", desc := "(IIIII)I" } : Jvm.MethodName)) ∈ lw_tbl := lw_at lw_m2 210 rfl
theorem q535 : (Jvm.Cond.methodLink "MemoryTransactionsLaw" (18 : Nat) ({ cls := "MemoryTransactions", name := "end", desc := "(I)I" } : Jvm.MethodName)) ∈ lw_tbl := lw_at lw_m2 218 rfl
theorem q539 : (Jvm.Cond.methodLink "MemoryTransactionsLaw" (23 : Nat) ({ cls := "MemoryTransactions", name := "text", desc := "()I" } : Jvm.MethodName)) ∈ lw_tbl := lw_at lw_m2 222 rfl
theorem q842 : (Jvm.Cond.methodLink "MemoryTransactionsLaw" (28 : Nat) ({ cls := "MemoryTransactions", name := "place", desc := "()I" } : Jvm.MethodName)) ∈ lw_tbl := lw_at lw_m4 45 rfl
theorem q846 : (Jvm.Cond.methodLink "MemoryTransactionsLaw" (32 : Nat) ({ cls := "MemoryTransactions", name := "told", desc := "(II)I" } : Jvm.MethodName)) ∈ lw_tbl := lw_at lw_m4 49 rfl
theorem q854 : (Jvm.Cond.methodLink "MemoryTransactionsLaw" (39 : Nat) ({ cls := "MemoryTransactions", name := "put", desc := "(IJ)I" } : Jvm.MethodName)) ∈ lw_tbl := lw_at lw_m4 57 rfl
theorem q920 : (Jvm.Cond.methodLink "MemoryTransactionsLaw" (44 : Nat) ({ cls := "MemoryTransactions", name := "cell", desc := "(I)J" } : Jvm.MethodName)) ∈ lw_tbl := lw_at lw_m4 123 rfl
theorem q924 : (Jvm.Cond.methodLink "MemoryTransactionsLaw" (49 : Nat) ({ cls := "MemoryTransactions", name := "version", desc := "(I)I" } : Jvm.MethodName)) ∈ lw_tbl := lw_at lw_m4 127 rfl
theorem q928 : (Jvm.Cond.methodLink "MemoryTransactionsLaw" (53 : Nat) ({ cls := "MemoryTransactions", name := "add", desc := "(II)I" } : Jvm.MethodName)) ∈ lw_tbl := lw_at lw_m4 131 rfl
theorem q938 : (Jvm.Cond.methodLink "MemoryTransactionsLaw" (57 : Nat) ({ cls := "MemoryTransactions", name := "turn", desc := "(I)I" } : Jvm.MethodName)) ∈ lw_tbl := lw_at lw_m4 141 rfl
theorem q1074 : (Jvm.Cond.methodLink "MemoryTransactionsLaw" (61 : Nat) ({ cls := "MemoryTransactions", name := "play", desc := "(JI)I" } : Jvm.MethodName)) ∈ lw_tbl := lw_at lw_m5 37 rfl
theorem q1081 : (Jvm.Cond.methodLink "MemoryTransactionsLaw" (66 : Nat) ({ cls := "MemoryTransactions", name := "client", desc := "(II)I" } : Jvm.MethodName)) ∈ lw_tbl := lw_at lw_m5 44 rfl
theorem q1088 : (Jvm.Cond.methodLink "MemoryTransactionsLaw" (70 : Nat) ({ cls := "MemoryTransactions", name := "sees", desc := "(II)J" } : Jvm.MethodName)) ∈ lw_tbl := lw_at lw_m5 51 rfl
theorem q1093 : (Jvm.Cond.methodLink "MemoryTransactionsLaw" (75 : Nat) ({ cls := "MemoryTransactions", name := "rules", desc := "()I" } : Jvm.MethodName)) ∈ lw_tbl := lw_at lw_m5 56 rfl
theorem q1097 : (Jvm.Cond.methodLink "MemoryTransactionsLaw" (79 : Nat) ({ cls := "MemoryTransactions", name := "rows", desc := "()I" } : Jvm.MethodName)) ∈ lw_tbl := lw_at lw_m5 60 rfl
theorem q1101 : (Jvm.Cond.methodLink "MemoryTransactionsLaw" (83 : Nat) ({ cls := "MemoryTransactions", name := "row", desc := "(II)I" } : Jvm.MethodName)) ∈ lw_tbl := lw_at lw_m5 64 rfl
theorem q1108 : (Jvm.Cond.methodLink "MemoryTransactionsLaw" (87 : Nat) ({ cls := "MemoryTransactions", name := "value", desc := "(I)J" } : Jvm.MethodName)) ∈ lw_tbl := lw_at lw_m5 71 rfl
theorem q1112 : (Jvm.Cond.methodLink "MemoryTransactionsLaw" (91 : Nat) ({ cls := "MemoryTransactions", name := "replays", desc := "()I" } : Jvm.MethodName)) ∈ lw_tbl := lw_at lw_m5 75 rfl
theorem q1134 : (Jvm.Cond.methodLink "MemoryTransactionsLaw" (95 : Nat) ({ cls := "MemoryTransactions", name := "clear", desc := "()I" } : Jvm.MethodName)) ∈ lw_tbl := lw_at lw_m5 97 rfl
theorem q1142 : (Jvm.Cond.classLink "MemoryTransactionsLaw" (10 : Nat) "MemoryTransactionsModel") ∈ lw_tbl := lw_at lw_m5 105 rfl
theorem q1144 : (Jvm.Cond.methodLink "MemoryTransactionsLaw" (12 : Nat) ({ cls := "MemoryTransactionsModel", name := "<init>", desc := "()V" } : Jvm.MethodName)) ∈ lw_tbl := lw_at lw_m5 107 rfl
theorem q1378 : (Jvm.Cond.methodLink "MemoryTransactionsLaw" (17 : Nat) ({ cls := "MemoryTransactionsModel", name := "feed", desc := "(IIIII)I" } : Jvm.MethodName)) ∈ lw_tbl := lw_at lw_m6 101 rfl
theorem q1382 : (Jvm.Cond.methodLink "MemoryTransactionsLaw" (22 : Nat) ({ cls := "MemoryTransactionsModel", name := "end", desc := "(I)I" } : Jvm.MethodName)) ∈ lw_tbl := lw_at lw_m6 105 rfl
theorem q1386 : (Jvm.Cond.methodLink "MemoryTransactionsLaw" (27 : Nat) ({ cls := "MemoryTransactionsModel", name := "text", desc := "()I" } : Jvm.MethodName)) ∈ lw_tbl := lw_at lw_m6 109 rfl
theorem q1481 : (Jvm.Cond.methodLink "MemoryTransactionsLaw" (31 : Nat) ({ cls := "MemoryTransactionsModel", name := "place", desc := "()I" } : Jvm.MethodName)) ∈ lw_tbl := lw_at lw_m6 204 rfl
theorem q1485 : (Jvm.Cond.methodLink "MemoryTransactionsLaw" (36 : Nat) ({ cls := "MemoryTransactionsModel", name := "told", desc := "(II)I" } : Jvm.MethodName)) ∈ lw_tbl := lw_at lw_m6 208 rfl
theorem q1489 : (Jvm.Cond.methodLink "MemoryTransactionsLaw" (60 : Nat) ({ cls := "MemoryTransactionsModel", name := "turn", desc := "(I)I" } : Jvm.MethodName)) ∈ lw_tbl := lw_at lw_m6 212 rfl
theorem q1608 : (Jvm.Cond.methodLink "MemoryTransactionsLaw" (65 : Nat) ({ cls := "MemoryTransactionsModel", name := "play", desc := "(JI)I" } : Jvm.MethodName)) ∈ lw_tbl := lw_at lw_m7 91 rfl
theorem q1614 : (Jvm.Cond.methodLink "MemoryTransactionsLaw" (43 : Nat) ({ cls := "MemoryTransactionsModel", name := "put", desc := "(IJ)I" } : Jvm.MethodName)) ∈ lw_tbl := lw_at lw_m7 97 rfl
theorem q1618 : (Jvm.Cond.methodLink "MemoryTransactionsLaw" (48 : Nat) ({ cls := "MemoryTransactionsModel", name := "cell", desc := "(I)J" } : Jvm.MethodName)) ∈ lw_tbl := lw_at lw_m7 101 rfl
theorem q1622 : (Jvm.Cond.methodLink "MemoryTransactionsLaw" (52 : Nat) ({ cls := "MemoryTransactionsModel", name := "version", desc := "(I)I" } : Jvm.MethodName)) ∈ lw_tbl := lw_at lw_m7 105 rfl
theorem q1626 : (Jvm.Cond.methodLink "MemoryTransactionsLaw" (56 : Nat) ({ cls := "MemoryTransactionsModel", name := "add", desc := "(II)I" } : Jvm.MethodName)) ∈ lw_tbl := lw_at lw_m7 109 rfl
theorem q1630 : (Jvm.Cond.methodLink "MemoryTransactionsLaw" (69 : Nat) ({ cls := "MemoryTransactionsModel", name := "client", desc := "(II)I" } : Jvm.MethodName)) ∈ lw_tbl := lw_at lw_m7 113 rfl
theorem q1634 : (Jvm.Cond.methodLink "MemoryTransactionsLaw" (74 : Nat) ({ cls := "MemoryTransactionsModel", name := "sees", desc := "(II)J" } : Jvm.MethodName)) ∈ lw_tbl := lw_at lw_m7 117 rfl
theorem q1638 : (Jvm.Cond.methodLink "MemoryTransactionsLaw" (78 : Nat) ({ cls := "MemoryTransactionsModel", name := "rules", desc := "()I" } : Jvm.MethodName)) ∈ lw_tbl := lw_at lw_m7 121 rfl
theorem q1642 : (Jvm.Cond.methodLink "MemoryTransactionsLaw" (82 : Nat) ({ cls := "MemoryTransactionsModel", name := "rows", desc := "()I" } : Jvm.MethodName)) ∈ lw_tbl := lw_at lw_m7 125 rfl
theorem q1646 : (Jvm.Cond.methodLink "MemoryTransactionsLaw" (86 : Nat) ({ cls := "MemoryTransactionsModel", name := "row", desc := "(II)I" } : Jvm.MethodName)) ∈ lw_tbl := lw_at lw_m7 129 rfl
theorem q1650 : (Jvm.Cond.methodLink "MemoryTransactionsLaw" (90 : Nat) ({ cls := "MemoryTransactionsModel", name := "value", desc := "(I)J" } : Jvm.MethodName)) ∈ lw_tbl := lw_at lw_m7 133 rfl
theorem q1654 : (Jvm.Cond.methodLink "MemoryTransactionsLaw" (94 : Nat) ({ cls := "MemoryTransactionsModel", name := "replays", desc := "()I" } : Jvm.MethodName)) ∈ lw_tbl := lw_at lw_m7 137 rfl
theorem q1666 : (Jvm.Cond.methodLink "MemoryTransactionsLaw" (98 : Nat) ({ cls := "MemoryTransactionsModel", name := "clear", desc := "()I" } : Jvm.MethodName)) ∈ lw_tbl := lw_at lw_m7 149 rfl
theorem q1670 : (Jvm.Cond.constantLong "MemoryTransactionsLaw" (37 : Nat) (4294967295 : Int64)) ∈ lw_tbl := lw_at lw_m7 153 rfl
theorem q106 : (Jvm.Cond.initialized "MemoryTransactions$Act") ∈ lw_tbl := lw_at lw_m1 29 rfl
theorem q720 : (Jvm.Cond.laysStatic "MemoryTransactions$Act" "SET" "LMemoryTransactions$Act;") ∈ lw_tbl := lw_at lw_m3 163 rfl
theorem q803 : (Jvm.Cond.laysStatic "MemoryTransactions$Act" "IF" "LMemoryTransactions$Act;") ∈ lw_tbl := lw_at lw_m4 6 rfl
theorem q816 : (Jvm.Cond.laysStatic "MemoryTransactions$Act" "WHILE" "LMemoryTransactions$Act;") ∈ lw_tbl := lw_at lw_m4 19 rfl
theorem q819 : (Jvm.Cond.laysStatic "MemoryTransactions$Act" "EITHER" "LMemoryTransactions$Act;") ∈ lw_tbl := lw_at lw_m4 22 rfl
theorem q827 : (Jvm.Cond.laysStatic "MemoryTransactions$Act" "TRY" "LMemoryTransactions$Act;") ∈ lw_tbl := lw_at lw_m4 30 rfl
theorem q835 : (Jvm.Cond.laysStatic "MemoryTransactions$Act" "RETRY" "LMemoryTransactions$Act;") ∈ lw_tbl := lw_at lw_m4 38 rfl
theorem q838 : (Jvm.Cond.laysStatic "MemoryTransactions$Act" "THROW" "LMemoryTransactions$Act;") ∈ lw_tbl := lw_at lw_m4 41 rfl
theorem q841 : (Jvm.Cond.laysStatic "MemoryTransactions$Act" "ALWAYS" "LMemoryTransactions$Act;") ∈ lw_tbl := lw_at lw_m4 44 rfl
theorem q994 : (Jvm.Cond.sameMethod "MemoryTransactions$Act" "java/lang/Enum" "ordinal" "()I") ∈ lw_tbl := lw_at lw_m4 197 rfl
theorem q995 : (Jvm.Cond.selects "MemoryTransactions$Act" ({ cls := "MemoryTransactions$Act", name := "ordinal", desc := "()I" } : Jvm.MethodName) ({ cls := "java/lang/Enum", name := "ordinal", desc := "()I" } : Jvm.MethodName)) ∈ lw_tbl := lw_at lw_m4 198 rfl
theorem q876 : (Jvm.Cond.interfaceMethod "MemoryTransactions$Letters" "MemoryTransactions$Letters" "of" "(I)J") ∈ lw_tbl := lw_at lw_m4 79 rfl
theorem q877 : (Jvm.Cond.declares ({ cls := "MemoryTransactions$Letters", name := "of", desc := "(I)J" } : Jvm.MethodName)) ∈ lw_tbl := lw_at lw_m4 80 rfl
theorem q109 : (Jvm.Cond.initialized "MemoryTransactions$Outcome") ∈ lw_tbl := lw_at lw_m1 32 rfl
theorem q943 : (Jvm.Cond.laysStatic "MemoryTransactions$Outcome" "IDLE" "LMemoryTransactions$Outcome;") ∈ lw_tbl := lw_at lw_m4 146 rfl
theorem q945 : (Jvm.Cond.sameMethod "MemoryTransactions$Outcome" "java/lang/Enum" "ordinal" "()I") ∈ lw_tbl := lw_at lw_m4 148 rfl
theorem q947 : (Jvm.Cond.selects "MemoryTransactions$Outcome" ({ cls := "MemoryTransactions$Outcome", name := "ordinal", desc := "()I" } : Jvm.MethodName) ({ cls := "java/lang/Enum", name := "ordinal", desc := "()I" } : Jvm.MethodName)) ∈ lw_tbl := lw_at lw_m4 150 rfl
theorem q954 : (Jvm.Cond.laysStatic "MemoryTransactions$Outcome" "WAITS" "LMemoryTransactions$Outcome;") ∈ lw_tbl := lw_at lw_m4 157 rfl
theorem q980 : (Jvm.Cond.laysStatic "MemoryTransactions$Outcome" "THROWN" "LMemoryTransactions$Outcome;") ∈ lw_tbl := lw_at lw_m4 183 rfl
theorem q986 : (Jvm.Cond.laysStatic "MemoryTransactions$Outcome" "CUT" "LMemoryTransactions$Outcome;") ∈ lw_tbl := lw_at lw_m4 189 rfl
theorem q988 : (Jvm.Cond.laysStatic "MemoryTransactions$Outcome" "DONE" "LMemoryTransactions$Outcome;") ∈ lw_tbl := lw_at lw_m4 191 rfl
theorem q1019 : (Jvm.Cond.laysStatic "MemoryTransactions$Outcome" "STEP" "LMemoryTransactions$Outcome;") ∈ lw_tbl := lw_at lw_m4 222 rfl
theorem q1047 : (Jvm.Cond.laysStatic "MemoryTransactions$Outcome" "HELD" "LMemoryTransactions$Outcome;") ∈ lw_tbl := lw_at lw_m5 10 rfl
theorem q95 : (Jvm.Cond.initialized "MemoryTransactions$Phase") ∈ lw_tbl := lw_at lw_m1 18 rfl
theorem q470 : (Jvm.Cond.laysStatic "MemoryTransactions$Phase" "IDLE" "LMemoryTransactions$Phase;") ∈ lw_tbl := lw_at lw_m2 153 rfl
theorem q937 : (Jvm.Cond.laysStatic "MemoryTransactions$Phase" "BEGINS" "LMemoryTransactions$Phase;") ∈ lw_tbl := lw_at lw_m4 140 rfl
theorem q951 : (Jvm.Cond.laysStatic "MemoryTransactions$Phase" "WAITS" "LMemoryTransactions$Phase;") ∈ lw_tbl := lw_at lw_m4 154 rfl
theorem q956 : (Jvm.Cond.laysStatic "MemoryTransactions$Phase" "RUNS" "LMemoryTransactions$Phase;") ∈ lw_tbl := lw_at lw_m4 159 rfl
theorem q1086 : (Jvm.Cond.sameMethod "MemoryTransactions$Phase" "java/lang/Enum" "ordinal" "()I") ∈ lw_tbl := lw_at lw_m5 49 rfl
theorem q1087 : (Jvm.Cond.selects "MemoryTransactions$Phase" ({ cls := "MemoryTransactions$Phase", name := "ordinal", desc := "()I" } : Jvm.MethodName) ({ cls := "java/lang/Enum", name := "ordinal", desc := "()I" } : Jvm.MethodName)) ∈ lw_tbl := lw_at lw_m5 50 rfl
theorem q108 : (Jvm.Cond.initialized "MemoryTransactions$Row") ∈ lw_tbl := lw_at lw_m1 31 rfl
theorem q915 : (Jvm.Cond.laysStatic "MemoryTransactions$Row" "PUT" "LMemoryTransactions$Row;") ∈ lw_tbl := lw_at lw_m4 118 rfl
theorem q1065 : (Jvm.Cond.laysStatic "MemoryTransactions$Row" "DONE" "LMemoryTransactions$Row;") ∈ lw_tbl := lw_at lw_m5 28 rfl
theorem q1067 : (Jvm.Cond.laysStatic "MemoryTransactions$Row" "THROWN" "LMemoryTransactions$Row;") ∈ lw_tbl := lw_at lw_m5 30 rfl
theorem q1106 : (Jvm.Cond.sameMethod "MemoryTransactions$Row" "java/lang/Enum" "ordinal" "()I") ∈ lw_tbl := lw_at lw_m5 69 rfl
theorem q1107 : (Jvm.Cond.selects "MemoryTransactions$Row" ({ cls := "MemoryTransactions$Row", name := "ordinal", desc := "()I" } : Jvm.MethodName) ({ cls := "java/lang/Enum", name := "ordinal", desc := "()I" } : Jvm.MethodName)) ∈ lw_tbl := lw_at lw_m5 70 rfl
theorem q97 : (Jvm.Cond.initialized "java/lang/System") ∈ lw_tbl := lw_at lw_m1 20 rfl
theorem q548 : (Jvm.Cond.static ({ cls := "java/lang/System", name := "arraycopy", desc := "(Ljava/lang/Object;ILjava/lang/Object;II)V" } : Jvm.MethodName)) ∈ lw_tbl := lw_at lw_m2 231 rfl
theorem q549 : (Jvm.Cond.native ({ cls := "java/lang/System", name := "arraycopy", desc := "(Ljava/lang/Object;ILjava/lang/Object;II)V" } : Jvm.MethodName)) ∈ lw_tbl := lw_at lw_m2 232 rfl
theorem q192 : (Jvm.Cond.arrayClass Jvm.ClassFile.FieldType.byte) ∈ lw_tbl := lw_at lw_m1 115 rfl
theorem q229 : (Jvm.Cond.arrayOver (Jvm.ClassFile.FieldType.object "MemoryTransactions$Program")) ∈ lw_tbl := lw_at lw_m1 152 rfl
theorem q237 : (Jvm.Cond.arrayOver (Jvm.ClassFile.FieldType.object "MemoryTransactions$Exp")) ∈ lw_tbl := lw_at lw_m1 160 rfl
theorem q264 : (Jvm.Cond.arrayClass Jvm.ClassFile.FieldType.long) ∈ lw_tbl := lw_at lw_m1 187 rfl
theorem q265 : (Jvm.Cond.arrayClass Jvm.ClassFile.FieldType.int) ∈ lw_tbl := lw_at lw_m1 188 rfl
theorem q295 : (Jvm.Cond.arrayOver (Jvm.ClassFile.FieldType.object "MemoryTransactions$Client")) ∈ lw_tbl := lw_at lw_m1 218 rfl
theorem q303 : (Jvm.Cond.arrayOver (Jvm.ClassFile.FieldType.object "MemoryTransactions$Row")) ∈ lw_tbl := lw_at lw_m1 226 rfl
theorem q382 : (Jvm.Cond.arrayOver (Jvm.ClassFile.FieldType.object "MemoryTransactions$Level")) ∈ lw_tbl := lw_at lw_m2 65 rfl
theorem q1377 : (Jvm.Cond.arrayClass Jvm.ClassFile.FieldType.boolean) ∈ lw_tbl := lw_at lw_m6 100 rfl
