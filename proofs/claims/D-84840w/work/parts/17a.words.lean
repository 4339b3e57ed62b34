theorem qt245 : (Jvm.Cond.initialized "RegionHouseLaw") ∈ lw_tbl := lw_at lw_m1 0 rfl
theorem qt246 : (Jvm.Cond.initialized "RegionHouse") ∈ lw_tbl := lw_at lw_m1 1 rfl
theorem qt247 : (Jvm.Cond.initialized "RegionHouse$Signs") ∈ lw_tbl := lw_at lw_m1 2 rfl
theorem qt248 : (Jvm.Cond.initialized "RegionHouse$Fault") ∈ lw_tbl := lw_at lw_m1 3 rfl
theorem qt249 : (Jvm.Cond.initialized "RegionHouse$Lexemes") ∈ lw_tbl := lw_at lw_m1 4 rfl
theorem qt250 : (Jvm.Cond.initialized "java/lang/String") ∈ lw_tbl := lw_at lw_m1 5 rfl
theorem qt251 : (Jvm.Cond.initialized "java/lang/StringLatin1") ∈ lw_tbl := lw_at lw_m1 6 rfl
theorem qt252 : (Jvm.Cond.initialized "jdk/internal/util/Preconditions") ∈ lw_tbl := lw_at lw_m1 7 rfl
theorem qt254 : (Jvm.Cond.initialized "RegionHouse$Program") ∈ lw_tbl := lw_at lw_m1 9 rfl
theorem qt255 : (Jvm.Cond.initialized "RegionHouse$Types") ∈ lw_tbl := lw_at lw_m1 10 rfl
theorem qt256 : (Jvm.Cond.initialized "RegionHouse$Reader") ∈ lw_tbl := lw_at lw_m1 11 rfl
theorem qt257 : (Jvm.Cond.initialized "RegionHouse$Typing") ∈ lw_tbl := lw_at lw_m1 12 rfl
theorem qt258 : (Jvm.Cond.initialized "RegionHouse$Regions") ∈ lw_tbl := lw_at lw_m1 13 rfl
theorem qt259 : (Jvm.Cond.initialized "RegionHouse$Printer") ∈ lw_tbl := lw_at lw_m1 14 rfl
theorem qt260 : (Jvm.Cond.initialized "RegionHouse$Code") ∈ lw_tbl := lw_at lw_m1 15 rfl
theorem qt261 : (Jvm.Cond.initialized "RegionHouse$Stack") ∈ lw_tbl := lw_at lw_m1 16 rfl
theorem qt262 : (Jvm.Cond.initialized "RegionHouse$Pool") ∈ lw_tbl := lw_at lw_m1 17 rfl
theorem qt263 : (Jvm.Cond.initialized "RegionHouse$Machine") ∈ lw_tbl := lw_at lw_m1 18 rfl
theorem qt264 : (Jvm.Cond.initialized "RegionHouseModel") ∈ lw_tbl := lw_at lw_m1 19 rfl
theorem qt269 : (Jvm.Cond.initialized "java/lang/Math") ∈ lw_tbl := lw_at lw_m1 24 rfl
theorem qt270 : (Jvm.Cond.initialized "java/util/Arrays") ∈ lw_tbl := lw_at lw_m1 25 rfl
theorem qt271 : (Jvm.Cond.initialized "java/lang/System") ∈ lw_tbl := lw_at lw_m1 26 rfl
theorem qt276 : (Jvm.Cond.classLink "RegionHouseLaw" (8 : Nat) "RegionHouse") ∈ lw_tbl := lw_at lw_m1 31 rfl
theorem qt277 : (Jvm.Cond.instantiable "RegionHouse" (15 : Nat)) ∈ lw_tbl := lw_at lw_m1 32 rfl
theorem qt278 : (Jvm.Cond.methodLink "RegionHouseLaw" (43 : Nat) ({ cls := "RegionHouse", name := "<init>", desc := "()V" } : Jvm.MethodName)) ∈ lw_tbl := lw_at lw_m1 33 rfl
theorem qt279 : (Jvm.Cond.instanceMethod ({ cls := "RegionHouse", name := "<init>", desc := "()V" } : Jvm.MethodName)) ∈ lw_tbl := lw_at lw_m1 34 rfl
theorem qt280 : (Jvm.Cond.code ({ cls := "RegionHouse", name := "<init>", desc := "()V" } : Jvm.MethodName) prog_1_method_1_code (1 : Nat) (Option.none : Option Jvm.ClassFile.FieldType)) ∈ lw_tbl := lw_at lw_m1 35 rfl
theorem qt281 : (Jvm.Cond.methodLink "RegionHouse" (1 : Nat) ({ cls := "java/lang/Object", name := "<init>", desc := "()V" } : Jvm.MethodName)) ∈ lw_tbl := lw_at lw_m1 36 rfl
theorem qt282 : (Jvm.Cond.instanceMethod ({ cls := "java/lang/Object", name := "<init>", desc := "()V" } : Jvm.MethodName)) ∈ lw_tbl := lw_at lw_m1 37 rfl
theorem qt283 : (Jvm.Cond.code ({ cls := "java/lang/Object", name := "<init>", desc := "()V" } : Jvm.MethodName) object_method_1_code (1 : Nat) (Option.none : Option Jvm.ClassFile.FieldType)) ∈ lw_tbl := lw_at lw_m1 38 rfl
theorem qt284 : (Jvm.Cond.classLink "RegionHouse" (7 : Nat) "RegionHouse$Signs") ∈ lw_tbl := lw_at lw_m1 39 rfl
theorem qt285 : (Jvm.Cond.instantiable "RegionHouse$Signs" (2 : Nat)) ∈ lw_tbl := lw_at lw_m1 40 rfl
theorem qt286 : (Jvm.Cond.methodLink "RegionHouse" (9 : Nat) ({ cls := "RegionHouse$Signs", name := "<init>", desc := "(I)V" } : Jvm.MethodName)) ∈ lw_tbl := lw_at lw_m1 41 rfl
theorem qt287 : (Jvm.Cond.instanceMethod ({ cls := "RegionHouse$Signs", name := "<init>", desc := "(I)V" } : Jvm.MethodName)) ∈ lw_tbl := lw_at lw_m1 42 rfl
theorem qt288 : (Jvm.Cond.code ({ cls := "RegionHouse$Signs", name := "<init>", desc := "(I)V" } : Jvm.MethodName) prog_11_method_1_code (2 : Nat) (Option.none : Option Jvm.ClassFile.FieldType)) ∈ lw_tbl := lw_at lw_m1 43 rfl
theorem qt289 : (Jvm.Cond.methodLink "RegionHouse$Signs" (1 : Nat) ({ cls := "java/lang/Object", name := "<init>", desc := "()V" } : Jvm.MethodName)) ∈ lw_tbl := lw_at lw_m1 44 rfl
theorem qt290 : (Jvm.Cond.fieldLink "RegionHouse$Signs" (7 : Nat) "RegionHouse$Signs" "row" "[B") ∈ lw_tbl := lw_at lw_m1 45 rfl
theorem qt291 : (Jvm.Cond.fieldLink "RegionHouse$Signs" (13 : Nat) "RegionHouse$Signs" "size" "I") ∈ lw_tbl := lw_at lw_m1 46 rfl
theorem qt297 : (Jvm.Cond.arrayClass Jvm.ClassFile.FieldType.byte) ∈ lw_tbl := lw_at lw_m1 52 rfl
theorem qt298 : (Jvm.Cond.classLink "RegionHouse" (21 : Nat) "RegionHouse$Fault") ∈ lw_tbl := lw_at lw_m1 53 rfl
theorem qt299 : (Jvm.Cond.instantiable "RegionHouse$Fault" (2 : Nat)) ∈ lw_tbl := lw_at lw_m1 54 rfl
theorem qt300 : (Jvm.Cond.methodLinkNest "RegionHouse" (23 : Nat) ({ cls := "RegionHouse$Fault", name := "<init>", desc := "()V" } : Jvm.MethodName) "RegionHouse") ∈ lw_tbl := lw_at lw_m1 55 rfl
theorem qt301 : (Jvm.Cond.instanceMethod ({ cls := "RegionHouse$Fault", name := "<init>", desc := "()V" } : Jvm.MethodName)) ∈ lw_tbl := lw_at lw_m1 56 rfl
theorem qt302 : (Jvm.Cond.code ({ cls := "RegionHouse$Fault", name := "<init>", desc := "()V" } : Jvm.MethodName) prog_3_method_1_code (1 : Nat) (Option.none : Option Jvm.ClassFile.FieldType)) ∈ lw_tbl := lw_at lw_m1 57 rfl
theorem qt303 : (Jvm.Cond.methodLink "RegionHouse$Fault" (1 : Nat) ({ cls := "java/lang/Object", name := "<init>", desc := "()V" } : Jvm.MethodName)) ∈ lw_tbl := lw_at lw_m1 58 rfl
theorem qt304 : (Jvm.Cond.fieldLink "RegionHouse$Fault" (7 : Nat) "RegionHouse$Fault" "kind" "I") ∈ lw_tbl := lw_at lw_m1 59 rfl
theorem qt305 : (Jvm.Cond.fieldLink "RegionHouse$Fault" (13 : Nat) "RegionHouse$Fault" "place" "I") ∈ lw_tbl := lw_at lw_m1 60 rfl
theorem qt311 : (Jvm.Cond.classLink "RegionHouse" (28 : Nat) "RegionHouse$Lexemes") ∈ lw_tbl := lw_at lw_m1 66 rfl
theorem qt312 : (Jvm.Cond.instantiable "RegionHouse$Lexemes" (10 : Nat)) ∈ lw_tbl := lw_at lw_m1 67 rfl
theorem qt313 : (Jvm.Cond.methodLink "RegionHouse" (30 : Nat) ({ cls := "RegionHouse$Lexemes", name := "<init>", desc := "()V" } : Jvm.MethodName)) ∈ lw_tbl := lw_at lw_m1 68 rfl
theorem qt314 : (Jvm.Cond.instanceMethod ({ cls := "RegionHouse$Lexemes", name := "<init>", desc := "()V" } : Jvm.MethodName)) ∈ lw_tbl := lw_at lw_m1 69 rfl
theorem qt315 : (Jvm.Cond.code ({ cls := "RegionHouse$Lexemes", name := "<init>", desc := "()V" } : Jvm.MethodName) prog_4_method_1_code (3 : Nat) (Option.none : Option Jvm.ClassFile.FieldType)) ∈ lw_tbl := lw_at lw_m1 70 rfl
theorem qt316 : (Jvm.Cond.methodLink "RegionHouse$Lexemes" (3 : Nat) ({ cls := "java/lang/Object", name := "<init>", desc := "()V" } : Jvm.MethodName)) ∈ lw_tbl := lw_at lw_m1 71 rfl
theorem qt317 : (Jvm.Cond.classLink "RegionHouse$Lexemes" (9 : Nat) "java/lang/String") ∈ lw_tbl := lw_at lw_m1 72 rfl
theorem qt318 : (Jvm.Cond.arrayOver (Jvm.ClassFile.FieldType.object "java/lang/String")) ∈ lw_tbl := lw_at lw_m1 73 rfl
theorem qt332 : (Jvm.Cond.methodLink "RegionHouse$Lexemes" (67 : Nat) ({ cls := "java/lang/String", name := "length", desc := "()I" } : Jvm.MethodName)) ∈ lw_tbl := lw_at lw_m1 87 rfl
theorem qt333 : (Jvm.Cond.instanceMethod ({ cls := "java/lang/String", name := "length", desc := "()I" } : Jvm.MethodName)) ∈ lw_tbl := lw_at lw_m1 88 rfl
theorem qt334 : (Jvm.Cond.selects "java/lang/String" ({ cls := "java/lang/String", name := "length", desc := "()I" } : Jvm.MethodName) ({ cls := "java/lang/String", name := "length", desc := "()I" } : Jvm.MethodName)) ∈ lw_tbl := lw_at lw_m1 89 rfl
theorem qt335 : (Jvm.Cond.code ({ cls := "java/lang/String", name := "length", desc := "()I" } : Jvm.MethodName) prog_25_method_54_code (1 : Nat) (Option.some Jvm.ClassFile.FieldType.int)) ∈ lw_tbl := lw_at lw_m1 90 rfl
theorem qt336 : (Jvm.Cond.methodLink "java/lang/String" (335 : Nat) ({ cls := "java/lang/String", name := "coder", desc := "()B" } : Jvm.MethodName)) ∈ lw_tbl := lw_at lw_m1 91 rfl
theorem qt337 : (Jvm.Cond.instanceMethod ({ cls := "java/lang/String", name := "coder", desc := "()B" } : Jvm.MethodName)) ∈ lw_tbl := lw_at lw_m1 92 rfl
theorem qt338 : (Jvm.Cond.selects "java/lang/String" ({ cls := "java/lang/String", name := "coder", desc := "()B" } : Jvm.MethodName) ({ cls := "java/lang/String", name := "coder", desc := "()B" } : Jvm.MethodName)) ∈ lw_tbl := lw_at lw_m1 93 rfl
theorem qt339 : (Jvm.Cond.code ({ cls := "java/lang/String", name := "coder", desc := "()B" } : Jvm.MethodName) prog_25_method_152_code (1 : Nat) (Option.some Jvm.ClassFile.FieldType.byte)) ∈ lw_tbl := lw_at lw_m1 94 rfl
theorem qt340 : (Jvm.Cond.fieldLink "java/lang/String" (38 : Nat) "java/lang/String" "COMPACT_STRINGS" "Z") ∈ lw_tbl := lw_at lw_m1 95 rfl
theorem qt342 : (Jvm.Cond.methodLink "RegionHouse$Lexemes" (71 : Nat) ({ cls := "java/lang/String", name := "charAt", desc := "(I)C" } : Jvm.MethodName)) ∈ lw_tbl := lw_at lw_m1 97 rfl
theorem qt343 : (Jvm.Cond.instanceMethod ({ cls := "java/lang/String", name := "charAt", desc := "(I)C" } : Jvm.MethodName)) ∈ lw_tbl := lw_at lw_m1 98 rfl
theorem qt344 : (Jvm.Cond.selects "java/lang/String" ({ cls := "java/lang/String", name := "charAt", desc := "(I)C" } : Jvm.MethodName) ({ cls := "java/lang/String", name := "charAt", desc := "(I)C" } : Jvm.MethodName)) ∈ lw_tbl := lw_at lw_m1 99 rfl
theorem qt345 : (Jvm.Cond.code ({ cls := "java/lang/String", name := "charAt", desc := "(I)C" } : Jvm.MethodName) prog_25_method_56_code (2 : Nat) (Option.some Jvm.ClassFile.FieldType.char)) ∈ lw_tbl := lw_at lw_m1 100 rfl
theorem qt346 : (Jvm.Cond.methodLink "java/lang/String" (492 : Nat) ({ cls := "java/lang/String", name := "isLatin1", desc := "()Z" } : Jvm.MethodName)) ∈ lw_tbl := lw_at lw_m1 101 rfl
theorem qt347 : (Jvm.Cond.instanceMethod ({ cls := "java/lang/String", name := "isLatin1", desc := "()Z" } : Jvm.MethodName)) ∈ lw_tbl := lw_at lw_m1 102 rfl
theorem qt348 : (Jvm.Cond.selects "java/lang/String" ({ cls := "java/lang/String", name := "isLatin1", desc := "()Z" } : Jvm.MethodName) ({ cls := "java/lang/String", name := "isLatin1", desc := "()Z" } : Jvm.MethodName)) ∈ lw_tbl := lw_at lw_m1 103 rfl
theorem qt349 : (Jvm.Cond.code ({ cls := "java/lang/String", name := "isLatin1", desc := "()Z" } : Jvm.MethodName) prog_25_method_154_code (1 : Nat) (Option.some Jvm.ClassFile.FieldType.boolean)) ∈ lw_tbl := lw_at lw_m1 104 rfl
theorem qt350 : (Jvm.Cond.methodLink "java/lang/String" (495 : Nat) ({ cls := "java/lang/StringLatin1", name := "charAt", desc := "([BI)C" } : Jvm.MethodName)) ∈ lw_tbl := lw_at lw_m1 105 rfl
theorem qt351 : (Jvm.Cond.static ({ cls := "java/lang/StringLatin1", name := "charAt", desc := "([BI)C" } : Jvm.MethodName)) ∈ lw_tbl := lw_at lw_m1 106 rfl
theorem qt352 : (Jvm.Cond.code ({ cls := "java/lang/StringLatin1", name := "charAt", desc := "([BI)C" } : Jvm.MethodName) prog_26_method_2_code (2 : Nat) (Option.some Jvm.ClassFile.FieldType.char)) ∈ lw_tbl := lw_at lw_m1 107 rfl
theorem qt353 : (Jvm.Cond.methodLink "java/lang/StringLatin1" (9 : Nat) ({ cls := "java/lang/String", name := "checkIndex", desc := "(II)V" } : Jvm.MethodName)) ∈ lw_tbl := lw_at lw_m1 108 rfl
theorem qt354 : (Jvm.Cond.static ({ cls := "java/lang/String", name := "checkIndex", desc := "(II)V" } : Jvm.MethodName)) ∈ lw_tbl := lw_at lw_m1 109 rfl
theorem qt355 : (Jvm.Cond.code ({ cls := "java/lang/String", name := "checkIndex", desc := "(II)V" } : Jvm.MethodName) prog_25_method_155_code (2 : Nat) (Option.none : Option Jvm.ClassFile.FieldType)) ∈ lw_tbl := lw_at lw_m1 110 rfl
theorem qt356 : (Jvm.Cond.fieldLink "java/lang/String" (1053 : Nat) "jdk/internal/util/Preconditions" "SIOOBE_FORMATTER" "Ljava/util/function/BiFunction;") ∈ lw_tbl := lw_at lw_m1 111 rfl
theorem qt358 : (Jvm.Cond.methodLink "java/lang/String" (1059 : Nat) ({ cls := "jdk/internal/util/Preconditions", name := "checkIndex", desc := "(IILjava/util/function/BiFunction;)I" } : Jvm.MethodName)) ∈ lw_tbl := lw_at lw_m1 113 rfl
theorem qt359 : (Jvm.Cond.static ({ cls := "jdk/internal/util/Preconditions", name := "checkIndex", desc := "(IILjava/util/function/BiFunction;)I" } : Jvm.MethodName)) ∈ lw_tbl := lw_at lw_m1 114 rfl
theorem qt360 : (Jvm.Cond.code ({ cls := "jdk/internal/util/Preconditions", name := "checkIndex", desc := "(IILjava/util/function/BiFunction;)I" } : Jvm.MethodName) prog_32_method_11_code (3 : Nat) (Option.some Jvm.ClassFile.FieldType.int)) ∈ lw_tbl := lw_at lw_m1 115 rfl
theorem qt380 : (Jvm.Cond.fieldLink "RegionHouse$Lexemes" (37 : Nat) "RegionHouse$Lexemes" "words" "[Ljava/lang/String;") ∈ lw_tbl := lw_at lw_m1 135 rfl
theorem qt381 : (Jvm.Cond.fieldLink "RegionHouse$Lexemes" (43 : Nat) "RegionHouse$Lexemes" "packed" "[J") ∈ lw_tbl := lw_at lw_m1 136 rfl
theorem qt382 : (Jvm.Cond.fieldLink "RegionHouse$Lexemes" (47 : Nat) "RegionHouse$Lexemes" "text" "[B") ∈ lw_tbl := lw_at lw_m1 137 rfl
theorem qt383 : (Jvm.Cond.fieldLink "RegionHouse$Lexemes" (79 : Nat) "RegionHouse$Lexemes" "length" "I") ∈ lw_tbl := lw_at lw_m1 138 rfl
theorem qt384 : (Jvm.Cond.fieldLink "RegionHouse$Lexemes" (51 : Nat) "RegionHouse$Lexemes" "kinds" "[I") ∈ lw_tbl := lw_at lw_m1 139 rfl
theorem qt385 : (Jvm.Cond.fieldLink "RegionHouse$Lexemes" (55 : Nat) "RegionHouse$Lexemes" "values" "[I") ∈ lw_tbl := lw_at lw_m1 140 rfl
theorem qt386 : (Jvm.Cond.fieldLink "RegionHouse$Lexemes" (58 : Nat) "RegionHouse$Lexemes" "names" "[J") ∈ lw_tbl := lw_at lw_m1 141 rfl
theorem qt387 : (Jvm.Cond.fieldLink "RegionHouse$Lexemes" (61 : Nat) "RegionHouse$Lexemes" "starts" "[I") ∈ lw_tbl := lw_at lw_m1 142 rfl
theorem qt388 : (Jvm.Cond.fieldLink "RegionHouse$Lexemes" (64 : Nat) "RegionHouse$Lexemes" "ends" "[I") ∈ lw_tbl := lw_at lw_m1 143 rfl
theorem qt389 : (Jvm.Cond.fieldLink "RegionHouse$Lexemes" (75 : Nat) "RegionHouse$Lexemes" "many" "I") ∈ lw_tbl := lw_at lw_m1 144 rfl
theorem qt411 : (Jvm.Cond.arrayClass Jvm.ClassFile.FieldType.long) ∈ lw_tbl := lw_at lw_m1 166 rfl
theorem qt412 : (Jvm.Cond.arrayClass Jvm.ClassFile.FieldType.int) ∈ lw_tbl := lw_at lw_m1 167 rfl
theorem qt413 : (Jvm.Cond.classLink "RegionHouse" (35 : Nat) "RegionHouse$Program") ∈ lw_tbl := lw_at lw_m1 168 rfl
theorem qt414 : (Jvm.Cond.instantiable "RegionHouse$Program" (39 : Nat)) ∈ lw_tbl := lw_at lw_m1 169 rfl
theorem qt415 : (Jvm.Cond.methodLinkNest "RegionHouse" (37 : Nat) ({ cls := "RegionHouse$Program", name := "<init>", desc := "()V" } : Jvm.MethodName) "RegionHouse") ∈ lw_tbl := lw_at lw_m1 170 rfl
theorem qt416 : (Jvm.Cond.instanceMethod ({ cls := "RegionHouse$Program", name := "<init>", desc := "()V" } : Jvm.MethodName)) ∈ lw_tbl := lw_at lw_m1 171 rfl
theorem qt417 : (Jvm.Cond.code ({ cls := "RegionHouse$Program", name := "<init>", desc := "()V" } : Jvm.MethodName) prog_8_method_1_code (1 : Nat) (Option.none : Option Jvm.ClassFile.FieldType)) ∈ lw_tbl := lw_at lw_m1 172 rfl
theorem qt418 : (Jvm.Cond.methodLink "RegionHouse$Program" (3 : Nat) ({ cls := "java/lang/Object", name := "<init>", desc := "()V" } : Jvm.MethodName)) ∈ lw_tbl := lw_at lw_m1 173 rfl
theorem qt419 : (Jvm.Cond.fieldLink "RegionHouse$Program" (11 : Nat) "RegionHouse$Program" "kinds" "[I") ∈ lw_tbl := lw_at lw_m1 174 rfl
theorem qt420 : (Jvm.Cond.fieldLinkNest "RegionHouse$Printer" (117 : Nat) "RegionHouse$Program" "kinds" "[I" "RegionHouse") ∈ lw_tbl := lw_at lw_m1 175 rfl
theorem qt421 : (Jvm.Cond.fieldLinkNest "RegionHouse$Regions" (119 : Nat) "RegionHouse$Program" "kinds" "[I" "RegionHouse") ∈ lw_tbl := lw_at lw_m1 176 rfl
theorem qt422 : (Jvm.Cond.fieldLinkNest "RegionHouse$Typing" (123 : Nat) "RegionHouse$Program" "kinds" "[I" "RegionHouse") ∈ lw_tbl := lw_at lw_m1 177 rfl
theorem qt423 : (Jvm.Cond.fieldLinkNest "RegionHouse$Code" (130 : Nat) "RegionHouse$Program" "kinds" "[I" "RegionHouse") ∈ lw_tbl := lw_at lw_m1 178 rfl
theorem qt424 : (Jvm.Cond.fieldLink "RegionHouse$Program" (15 : Nat) "RegionHouse$Program" "firsts" "[I") ∈ lw_tbl := lw_at lw_m1 179 rfl
theorem qt425 : (Jvm.Cond.fieldLinkNest "RegionHouse$Printer" (120 : Nat) "RegionHouse$Program" "firsts" "[I" "RegionHouse") ∈ lw_tbl := lw_at lw_m1 180 rfl
theorem qt426 : (Jvm.Cond.fieldLinkNest "RegionHouse$Typing" (81 : Nat) "RegionHouse$Program" "firsts" "[I" "RegionHouse") ∈ lw_tbl := lw_at lw_m1 181 rfl
theorem qt427 : (Jvm.Cond.fieldLinkNest "RegionHouse" (237 : Nat) "RegionHouse$Program" "firsts" "[I" "RegionHouse") ∈ lw_tbl := lw_at lw_m1 182 rfl
theorem qt428 : (Jvm.Cond.fieldLinkNest "RegionHouse$Reader" (176 : Nat) "RegionHouse$Program" "firsts" "[I" "RegionHouse") ∈ lw_tbl := lw_at lw_m1 183 rfl
theorem qt429 : (Jvm.Cond.fieldLinkNest "RegionHouse$Regions" (247 : Nat) "RegionHouse$Program" "firsts" "[I" "RegionHouse") ∈ lw_tbl := lw_at lw_m1 184 rfl
theorem qt430 : (Jvm.Cond.fieldLink "RegionHouse$Program" (18 : Nat) "RegionHouse$Program" "lasts" "[I") ∈ lw_tbl := lw_at lw_m1 185 rfl
theorem qt431 : (Jvm.Cond.fieldLinkNest "RegionHouse$Printer" (108 : Nat) "RegionHouse$Program" "lasts" "[I" "RegionHouse") ∈ lw_tbl := lw_at lw_m1 186 rfl
theorem qt432 : (Jvm.Cond.fieldLink "RegionHouse$Program" (21 : Nat) "RegionHouse$Program" "signs" "[I") ∈ lw_tbl := lw_at lw_m1 187 rfl
theorem qt433 : (Jvm.Cond.fieldLinkNest "RegionHouse$Printer" (123 : Nat) "RegionHouse$Program" "signs" "[I" "RegionHouse") ∈ lw_tbl := lw_at lw_m1 188 rfl
theorem qt434 : (Jvm.Cond.fieldLinkNest "RegionHouse$Reader" (228 : Nat) "RegionHouse$Program" "signs" "[I" "RegionHouse") ∈ lw_tbl := lw_at lw_m1 189 rfl
theorem qt435 : (Jvm.Cond.fieldLink "RegionHouse$Program" (24 : Nat) "RegionHouse$Program" "a" "[I") ∈ lw_tbl := lw_at lw_m1 190 rfl
theorem qt436 : (Jvm.Cond.fieldLinkNest "RegionHouse$Code" (97 : Nat) "RegionHouse$Program" "a" "[I" "RegionHouse") ∈ lw_tbl := lw_at lw_m1 191 rfl
theorem qt437 : (Jvm.Cond.fieldLinkNest "RegionHouse$Regions" (226 : Nat) "RegionHouse$Program" "a" "[I" "RegionHouse") ∈ lw_tbl := lw_at lw_m1 192 rfl
theorem qt438 : (Jvm.Cond.fieldLinkNest "RegionHouse$Typing" (161 : Nat) "RegionHouse$Program" "a" "[I" "RegionHouse") ∈ lw_tbl := lw_at lw_m1 193 rfl
theorem qt439 : (Jvm.Cond.fieldLinkNest "RegionHouse$Reader" (268 : Nat) "RegionHouse$Program" "a" "[I" "RegionHouse") ∈ lw_tbl := lw_at lw_m1 194 rfl
theorem qt440 : (Jvm.Cond.fieldLink "RegionHouse$Program" (27 : Nat) "RegionHouse$Program" "b" "[I") ∈ lw_tbl := lw_at lw_m1 195 rfl
theorem qt441 : (Jvm.Cond.fieldLinkNest "RegionHouse$Code" (121 : Nat) "RegionHouse$Program" "b" "[I" "RegionHouse") ∈ lw_tbl := lw_at lw_m1 196 rfl
theorem qt442 : (Jvm.Cond.fieldLinkNest "RegionHouse$Typing" (164 : Nat) "RegionHouse$Program" "b" "[I" "RegionHouse") ∈ lw_tbl := lw_at lw_m1 197 rfl
theorem qt443 : (Jvm.Cond.fieldLink "RegionHouse$Program" (30 : Nat) "RegionHouse$Program" "c" "[I") ∈ lw_tbl := lw_at lw_m1 198 rfl
theorem qt444 : (Jvm.Cond.fieldLinkNest "RegionHouse$Code" (163 : Nat) "RegionHouse$Program" "c" "[I" "RegionHouse") ∈ lw_tbl := lw_at lw_m1 199 rfl
theorem qt445 : (Jvm.Cond.fieldLink "RegionHouse$Program" (33 : Nat) "RegionHouse$Program" "nexts" "[I") ∈ lw_tbl := lw_at lw_m1 200 rfl
theorem qt446 : (Jvm.Cond.fieldLinkNest "RegionHouse$Code" (166 : Nat) "RegionHouse$Program" "nexts" "[I" "RegionHouse") ∈ lw_tbl := lw_at lw_m1 201 rfl
theorem qt447 : (Jvm.Cond.fieldLinkNest "RegionHouse$Typing" (188 : Nat) "RegionHouse$Program" "nexts" "[I" "RegionHouse") ∈ lw_tbl := lw_at lw_m1 202 rfl
theorem qt448 : (Jvm.Cond.fieldLinkNest "RegionHouse$Reader" (271 : Nat) "RegionHouse$Program" "nexts" "[I" "RegionHouse") ∈ lw_tbl := lw_at lw_m1 203 rfl
theorem qt449 : (Jvm.Cond.fieldLink "RegionHouse$Program" (36 : Nat) "RegionHouse$Program" "arounds" "[I") ∈ lw_tbl := lw_at lw_m1 204 rfl
theorem qt450 : (Jvm.Cond.fieldLinkNest "RegionHouse$Reader" (173 : Nat) "RegionHouse$Program" "arounds" "[I" "RegionHouse") ∈ lw_tbl := lw_at lw_m1 205 rfl
theorem qt451 : (Jvm.Cond.fieldLinkNest "RegionHouse$Typing" (176 : Nat) "RegionHouse$Program" "arounds" "[I" "RegionHouse") ∈ lw_tbl := lw_at lw_m1 206 rfl
theorem qt452 : (Jvm.Cond.fieldLink "RegionHouse$Program" (39 : Nat) "RegionHouse$Program" "roles" "[I") ∈ lw_tbl := lw_at lw_m1 207 rfl
theorem qt453 : (Jvm.Cond.fieldLinkNest "RegionHouse$Reader" (164 : Nat) "RegionHouse$Program" "roles" "[I" "RegionHouse") ∈ lw_tbl := lw_at lw_m1 208 rfl
theorem qt454 : (Jvm.Cond.fieldLinkNest "RegionHouse$Typing" (179 : Nat) "RegionHouse$Program" "roles" "[I" "RegionHouse") ∈ lw_tbl := lw_at lw_m1 209 rfl
theorem qt455 : (Jvm.Cond.fieldLink "RegionHouse$Program" (42 : Nat) "RegionHouse$Program" "starts" "[I") ∈ lw_tbl := lw_at lw_m1 210 rfl
theorem qt456 : (Jvm.Cond.fieldLinkNest "RegionHouse$Regions" (212 : Nat) "RegionHouse$Program" "starts" "[I" "RegionHouse") ∈ lw_tbl := lw_at lw_m1 211 rfl
theorem qt457 : (Jvm.Cond.fieldLink "RegionHouse$Program" (45 : Nat) "RegionHouse$Program" "values" "[I") ∈ lw_tbl := lw_at lw_m1 212 rfl
theorem qt458 : (Jvm.Cond.fieldLinkNest "RegionHouse$Typing" (72 : Nat) "RegionHouse$Program" "values" "[I" "RegionHouse") ∈ lw_tbl := lw_at lw_m1 213 rfl
theorem qt459 : (Jvm.Cond.fieldLinkNest "RegionHouse$Printer" (165 : Nat) "RegionHouse$Program" "values" "[I" "RegionHouse") ∈ lw_tbl := lw_at lw_m1 214 rfl
theorem qt460 : (Jvm.Cond.fieldLinkNest "RegionHouse$Regions" (122 : Nat) "RegionHouse$Program" "values" "[I" "RegionHouse") ∈ lw_tbl := lw_at lw_m1 215 rfl
theorem qt461 : (Jvm.Cond.fieldLinkNest "RegionHouse$Code" (133 : Nat) "RegionHouse$Program" "values" "[I" "RegionHouse") ∈ lw_tbl := lw_at lw_m1 216 rfl
theorem qt462 : (Jvm.Cond.fieldLinkNest "RegionHouse$Reader" (207 : Nat) "RegionHouse$Program" "values" "[I" "RegionHouse") ∈ lw_tbl := lw_at lw_m1 217 rfl
theorem qt463 : (Jvm.Cond.fieldLink "RegionHouse$Program" (48 : Nat) "RegionHouse$Program" "scopes" "[I") ∈ lw_tbl := lw_at lw_m1 218 rfl
theorem qt464 : (Jvm.Cond.fieldLinkNest "RegionHouse$Regions" (216 : Nat) "RegionHouse$Program" "scopes" "[I" "RegionHouse") ∈ lw_tbl := lw_at lw_m1 219 rfl
theorem qt465 : (Jvm.Cond.fieldLink "RegionHouse$Program" (115 : Nat) "RegionHouse$Program" "parts" "I") ∈ lw_tbl := lw_at lw_m1 220 rfl
theorem qt466 : (Jvm.Cond.fieldLinkNest "RegionHouse$Reader" (152 : Nat) "RegionHouse$Program" "parts" "I" "RegionHouse") ∈ lw_tbl := lw_at lw_m1 221 rfl
theorem qt467 : (Jvm.Cond.fieldLink "RegionHouse$Program" (51 : Nat) "RegionHouse$Program" "names" "[J") ∈ lw_tbl := lw_at lw_m1 222 rfl
theorem qt468 : (Jvm.Cond.fieldLink "RegionHouse$Program" (55 : Nat) "RegionHouse$Program" "lexemes" "[I") ∈ lw_tbl := lw_at lw_m1 223 rfl
theorem qt469 : (Jvm.Cond.fieldLinkNest "RegionHouse$Regions" (263 : Nat) "RegionHouse$Program" "lexemes" "[I" "RegionHouse") ∈ lw_tbl := lw_at lw_m1 224 rfl
theorem qt470 : (Jvm.Cond.fieldLink "RegionHouse$Program" (58 : Nat) "RegionHouse$Program" "owners" "[I") ∈ lw_tbl := lw_at lw_m1 225 rfl
theorem qt471 : (Jvm.Cond.fieldLinkNest "RegionHouse$Code" (124 : Nat) "RegionHouse$Program" "owners" "[I" "RegionHouse") ∈ lw_tbl := lw_at lw_m1 226 rfl
theorem qt472 : (Jvm.Cond.fieldLink "RegionHouse$Program" (61 : Nat) "RegionHouse$Program" "before" "[I") ∈ lw_tbl := lw_at lw_m1 227 rfl
theorem qt473 : (Jvm.Cond.fieldLinkNest "RegionHouse$Regions" (219 : Nat) "RegionHouse$Program" "before" "[I" "RegionHouse") ∈ lw_tbl := lw_at lw_m1 228 rfl
theorem qt474 : (Jvm.Cond.fieldLink "RegionHouse$Program" (64 : Nat) "RegionHouse$Program" "depths" "[I") ∈ lw_tbl := lw_at lw_m1 229 rfl
theorem qt475 : (Jvm.Cond.fieldLinkNest "RegionHouse$Reader" (85 : Nat) "RegionHouse$Program" "depths" "[I" "RegionHouse") ∈ lw_tbl := lw_at lw_m1 230 rfl
theorem qt476 : (Jvm.Cond.fieldLink "RegionHouse$Program" (119 : Nat) "RegionHouse$Program" "variables" "I") ∈ lw_tbl := lw_at lw_m1 231 rfl
theorem qt477 : (Jvm.Cond.fieldLinkNest "RegionHouse$Reader" (126 : Nat) "RegionHouse$Program" "variables" "I" "RegionHouse") ∈ lw_tbl := lw_at lw_m1 232 rfl
theorem qt478 : (Jvm.Cond.fieldLinkNest "RegionHouse$Regions" (260 : Nat) "RegionHouse$Program" "variables" "I" "RegionHouse") ∈ lw_tbl := lw_at lw_m1 233 rfl
theorem qt479 : (Jvm.Cond.fieldLink "RegionHouse$Program" (67 : Nat) "RegionHouse$Program" "outer" "[I") ∈ lw_tbl := lw_at lw_m1 234 rfl
theorem qt480 : (Jvm.Cond.fieldLink "RegionHouse$Program" (70 : Nat) "RegionHouse$Program" "bodies" "[I") ∈ lw_tbl := lw_at lw_m1 235 rfl
theorem qt481 : (Jvm.Cond.fieldLinkNest "RegionHouse$Code" (100 : Nat) "RegionHouse$Program" "bodies" "[I" "RegionHouse") ∈ lw_tbl := lw_at lw_m1 236 rfl
theorem qt482 : (Jvm.Cond.fieldLinkNest "RegionHouse$Regions" (197 : Nat) "RegionHouse$Program" "bodies" "[I" "RegionHouse") ∈ lw_tbl := lw_at lw_m1 237 rfl
theorem qt483 : (Jvm.Cond.fieldLinkNest "RegionHouse$Reader" (210 : Nat) "RegionHouse$Program" "bodies" "[I" "RegionHouse") ∈ lw_tbl := lw_at lw_m1 238 rfl
theorem qt484 : (Jvm.Cond.fieldLink "RegionHouse$Program" (73 : Nat) "RegionHouse$Program" "given" "[I") ∈ lw_tbl := lw_at lw_m1 239 rfl
theorem qt485 : (Jvm.Cond.fieldLinkNest "RegionHouse$Code" (94 : Nat) "RegionHouse$Program" "given" "[I" "RegionHouse") ∈ lw_tbl := lw_at lw_m2 0 rfl
theorem qt486 : (Jvm.Cond.fieldLinkNest "RegionHouse$Typing" (117 : Nat) "RegionHouse$Program" "given" "[I" "RegionHouse") ∈ lw_tbl := lw_at lw_m2 1 rfl
theorem qt487 : (Jvm.Cond.fieldLinkNest "RegionHouse$Reader" (213 : Nat) "RegionHouse$Program" "given" "[I" "RegionHouse") ∈ lw_tbl := lw_at lw_m2 2 rfl
theorem qt488 : (Jvm.Cond.fieldLink "RegionHouse$Program" (76 : Nat) "RegionHouse$Program" "captureFirst" "[I") ∈ lw_tbl := lw_at lw_m2 3 rfl
theorem qt489 : (Jvm.Cond.fieldLinkNest "RegionHouse$Regions" (194 : Nat) "RegionHouse$Program" "captureFirst" "[I" "RegionHouse") ∈ lw_tbl := lw_at lw_m2 4 rfl
theorem qt490 : (Jvm.Cond.fieldLinkNest "RegionHouse$Code" (177 : Nat) "RegionHouse$Program" "captureFirst" "[I" "RegionHouse") ∈ lw_tbl := lw_at lw_m2 5 rfl
theorem qt491 : (Jvm.Cond.fieldLink "RegionHouse$Program" (79 : Nat) "RegionHouse$Program" "captureLast" "[I") ∈ lw_tbl := lw_at lw_m2 6 rfl
theorem qt492 : (Jvm.Cond.fieldLink "RegionHouse$Program" (82 : Nat) "RegionHouse$Program" "captureCount" "[I") ∈ lw_tbl := lw_at lw_m2 7 rfl
theorem qt493 : (Jvm.Cond.fieldLinkNest "RegionHouse$Code" (41 : Nat) "RegionHouse$Program" "captureCount" "[I" "RegionHouse") ∈ lw_tbl := lw_at lw_m2 8 rfl
theorem qt494 : (Jvm.Cond.fieldLinkNest "RegionHouse$Machine" (211 : Nat) "RegionHouse$Program" "captureCount" "[I" "RegionHouse") ∈ lw_tbl := lw_at lw_m2 9 rfl
theorem qt495 : (Jvm.Cond.fieldLink "RegionHouse$Program" (122 : Nat) "RegionHouse$Program" "fns" "I") ∈ lw_tbl := lw_at lw_m2 10 rfl
theorem qt496 : (Jvm.Cond.fieldLinkNest "RegionHouse$Reader" (158 : Nat) "RegionHouse$Program" "fns" "I" "RegionHouse") ∈ lw_tbl := lw_at lw_m2 11 rfl
theorem qt497 : (Jvm.Cond.fieldLink "RegionHouse$Program" (85 : Nat) "RegionHouse$Program" "captured" "[I") ∈ lw_tbl := lw_at lw_m2 12 rfl
theorem qt498 : (Jvm.Cond.fieldLinkNest "RegionHouse$Regions" (200 : Nat) "RegionHouse$Program" "captured" "[I" "RegionHouse") ∈ lw_tbl := lw_at lw_m2 13 rfl
theorem qt499 : (Jvm.Cond.fieldLinkNest "RegionHouse$Code" (180 : Nat) "RegionHouse$Program" "captured" "[I" "RegionHouse") ∈ lw_tbl := lw_at lw_m2 14 rfl
theorem qt500 : (Jvm.Cond.fieldLink "RegionHouse$Program" (88 : Nat) "RegionHouse$Program" "captureNext" "[I") ∈ lw_tbl := lw_at lw_m2 15 rfl
theorem qt501 : (Jvm.Cond.fieldLinkNest "RegionHouse$Regions" (209 : Nat) "RegionHouse$Program" "captureNext" "[I" "RegionHouse") ∈ lw_tbl := lw_at lw_m2 16 rfl
theorem qt502 : (Jvm.Cond.fieldLinkNest "RegionHouse$Code" (183 : Nat) "RegionHouse$Program" "captureNext" "[I" "RegionHouse") ∈ lw_tbl := lw_at lw_m2 17 rfl
theorem qt503 : (Jvm.Cond.fieldLink "RegionHouse$Program" (125 : Nat) "RegionHouse$Program" "captures" "I") ∈ lw_tbl := lw_at lw_m2 18 rfl
theorem qt504 : (Jvm.Cond.fieldLink "RegionHouse$Program" (91 : Nat) "RegionHouse$Program" "functionNames" "[J") ∈ lw_tbl := lw_at lw_m2 19 rfl
theorem qt505 : (Jvm.Cond.fieldLinkNest "RegionHouse$Reader" (116 : Nat) "RegionHouse$Program" "functionNames" "[J" "RegionHouse") ∈ lw_tbl := lw_at lw_m2 20 rfl
theorem qt506 : (Jvm.Cond.fieldLink "RegionHouse$Program" (94 : Nat) "RegionHouse$Program" "functionLexemes" "[I") ∈ lw_tbl := lw_at lw_m2 21 rfl
theorem qt507 : (Jvm.Cond.fieldLinkNest "RegionHouse$Printer" (111 : Nat) "RegionHouse$Program" "functionLexemes" "[I" "RegionHouse") ∈ lw_tbl := lw_at lw_m2 22 rfl
theorem qt508 : (Jvm.Cond.fieldLinkNest "RegionHouse$Regions" (131 : Nat) "RegionHouse$Program" "functionLexemes" "[I" "RegionHouse") ∈ lw_tbl := lw_at lw_m2 23 rfl
theorem qt509 : (Jvm.Cond.fieldLinkNest "RegionHouse$Reader" (113 : Nat) "RegionHouse$Program" "functionLexemes" "[I" "RegionHouse") ∈ lw_tbl := lw_at lw_m2 24 rfl
theorem qt510 : (Jvm.Cond.fieldLink "RegionHouse$Program" (97 : Nat) "RegionHouse$Program" "parameters" "[I") ∈ lw_tbl := lw_at lw_m2 25 rfl
theorem qt511 : (Jvm.Cond.fieldLinkNest "RegionHouse$Typing" (69 : Nat) "RegionHouse$Program" "parameters" "[I" "RegionHouse") ∈ lw_tbl := lw_at lw_m2 26 rfl
theorem qt512 : (Jvm.Cond.fieldLinkNest "RegionHouse$Regions" (94 : Nat) "RegionHouse$Program" "parameters" "[I" "RegionHouse") ∈ lw_tbl := lw_at lw_m2 27 rfl
theorem qt513 : (Jvm.Cond.fieldLinkNest "RegionHouse$Printer" (183 : Nat) "RegionHouse$Program" "parameters" "[I" "RegionHouse") ∈ lw_tbl := lw_at lw_m2 28 rfl
theorem qt514 : (Jvm.Cond.fieldLinkNest "RegionHouse$Code" (76 : Nat) "RegionHouse$Program" "parameters" "[I" "RegionHouse") ∈ lw_tbl := lw_at lw_m2 29 rfl
theorem qt515 : (Jvm.Cond.fieldLinkNest "RegionHouse$Reader" (120 : Nat) "RegionHouse$Program" "parameters" "[I" "RegionHouse") ∈ lw_tbl := lw_at lw_m2 30 rfl
theorem qt516 : (Jvm.Cond.fieldLinkNest "RegionHouse" (204 : Nat) "RegionHouse$Program" "parameters" "[I" "RegionHouse") ∈ lw_tbl := lw_at lw_m2 31 rfl
theorem qt517 : (Jvm.Cond.fieldLinkNest "RegionHouse$Machine" (222 : Nat) "RegionHouse$Program" "parameters" "[I" "RegionHouse") ∈ lw_tbl := lw_at lw_m2 32 rfl
theorem qt518 : (Jvm.Cond.fieldLink "RegionHouse$Program" (100 : Nat) "RegionHouse$Program" "parameterFirst" "[I") ∈ lw_tbl := lw_at lw_m2 33 rfl
theorem qt519 : (Jvm.Cond.fieldLinkNest "RegionHouse$Typing" (66 : Nat) "RegionHouse$Program" "parameterFirst" "[I" "RegionHouse") ∈ lw_tbl := lw_at lw_m2 34 rfl
theorem qt520 : (Jvm.Cond.fieldLinkNest "RegionHouse$Code" (79 : Nat) "RegionHouse$Program" "parameterFirst" "[I" "RegionHouse") ∈ lw_tbl := lw_at lw_m2 35 rfl
theorem qt521 : (Jvm.Cond.fieldLinkNest "RegionHouse$Reader" (123 : Nat) "RegionHouse$Program" "parameterFirst" "[I" "RegionHouse") ∈ lw_tbl := lw_at lw_m2 36 rfl
theorem qt522 : (Jvm.Cond.fieldLinkNest "RegionHouse$Regions" (257 : Nat) "RegionHouse$Program" "parameterFirst" "[I" "RegionHouse") ∈ lw_tbl := lw_at lw_m2 37 rfl
theorem qt523 : (Jvm.Cond.fieldLink "RegionHouse$Program" (103 : Nat) "RegionHouse$Program" "partFrom" "[I") ∈ lw_tbl := lw_at lw_m2 38 rfl
theorem qt524 : (Jvm.Cond.fieldLinkNest "RegionHouse$Printer" (92 : Nat) "RegionHouse$Program" "partFrom" "[I" "RegionHouse") ∈ lw_tbl := lw_at lw_m2 39 rfl
theorem qt525 : (Jvm.Cond.fieldLinkNest "RegionHouse$Regions" (113 : Nat) "RegionHouse$Program" "partFrom" "[I" "RegionHouse") ∈ lw_tbl := lw_at lw_m2 40 rfl
theorem qt526 : (Jvm.Cond.fieldLinkNest "RegionHouse$Typing" (104 : Nat) "RegionHouse$Program" "partFrom" "[I" "RegionHouse") ∈ lw_tbl := lw_at lw_m2 41 rfl
theorem qt527 : (Jvm.Cond.fieldLinkNest "RegionHouse" (216 : Nat) "RegionHouse$Program" "partFrom" "[I" "RegionHouse") ∈ lw_tbl := lw_at lw_m2 42 rfl
theorem qt528 : (Jvm.Cond.fieldLinkNest "RegionHouse$Reader" (149 : Nat) "RegionHouse$Program" "partFrom" "[I" "RegionHouse") ∈ lw_tbl := lw_at lw_m2 43 rfl
theorem qt529 : (Jvm.Cond.fieldLink "RegionHouse$Program" (106 : Nat) "RegionHouse$Program" "partTo" "[I") ∈ lw_tbl := lw_at lw_m2 44 rfl
theorem qt530 : (Jvm.Cond.fieldLinkNest "RegionHouse$Printer" (95 : Nat) "RegionHouse$Program" "partTo" "[I" "RegionHouse") ∈ lw_tbl := lw_at lw_m2 45 rfl
theorem qt531 : (Jvm.Cond.fieldLinkNest "RegionHouse$Regions" (116 : Nat) "RegionHouse$Program" "partTo" "[I" "RegionHouse") ∈ lw_tbl := lw_at lw_m2 46 rfl
theorem qt532 : (Jvm.Cond.fieldLinkNest "RegionHouse" (213 : Nat) "RegionHouse$Program" "partTo" "[I" "RegionHouse") ∈ lw_tbl := lw_at lw_m2 47 rfl
theorem qt533 : (Jvm.Cond.fieldLinkNest "RegionHouse$Typing" (120 : Nat) "RegionHouse$Program" "partTo" "[I" "RegionHouse") ∈ lw_tbl := lw_at lw_m2 48 rfl
theorem qt534 : (Jvm.Cond.fieldLinkNest "RegionHouse$Reader" (167 : Nat) "RegionHouse$Program" "partTo" "[I" "RegionHouse") ∈ lw_tbl := lw_at lw_m2 49 rfl
theorem qt535 : (Jvm.Cond.fieldLink "RegionHouse$Program" (109 : Nat) "RegionHouse$Program" "fnFrom" "[I") ∈ lw_tbl := lw_at lw_m2 50 rfl
theorem qt536 : (Jvm.Cond.fieldLinkNest "RegionHouse$Code" (88 : Nat) "RegionHouse$Program" "fnFrom" "[I" "RegionHouse") ∈ lw_tbl := lw_at lw_m2 51 rfl
theorem qt537 : (Jvm.Cond.fieldLinkNest "RegionHouse$Regions" (188 : Nat) "RegionHouse$Program" "fnFrom" "[I" "RegionHouse") ∈ lw_tbl := lw_at lw_m2 52 rfl
theorem qt538 : (Jvm.Cond.fieldLinkNest "RegionHouse$Typing" (111 : Nat) "RegionHouse$Program" "fnFrom" "[I" "RegionHouse") ∈ lw_tbl := lw_at lw_m2 53 rfl
theorem qt539 : (Jvm.Cond.fieldLinkNest "RegionHouse" (222 : Nat) "RegionHouse$Program" "fnFrom" "[I" "RegionHouse") ∈ lw_tbl := lw_at lw_m2 54 rfl
theorem qt540 : (Jvm.Cond.fieldLinkNest "RegionHouse$Reader" (155 : Nat) "RegionHouse$Program" "fnFrom" "[I" "RegionHouse") ∈ lw_tbl := lw_at lw_m2 55 rfl
theorem qt541 : (Jvm.Cond.fieldLink "RegionHouse$Program" (112 : Nat) "RegionHouse$Program" "fnTo" "[I") ∈ lw_tbl := lw_at lw_m2 56 rfl
theorem qt542 : (Jvm.Cond.fieldLinkNest "RegionHouse$Code" (91 : Nat) "RegionHouse$Program" "fnTo" "[I" "RegionHouse") ∈ lw_tbl := lw_at lw_m2 57 rfl
theorem qt543 : (Jvm.Cond.fieldLinkNest "RegionHouse$Regions" (191 : Nat) "RegionHouse$Program" "fnTo" "[I" "RegionHouse") ∈ lw_tbl := lw_at lw_m2 58 rfl
theorem qt544 : (Jvm.Cond.fieldLinkNest "RegionHouse$Typing" (114 : Nat) "RegionHouse$Program" "fnTo" "[I" "RegionHouse") ∈ lw_tbl := lw_at lw_m2 59 rfl
theorem qt545 : (Jvm.Cond.fieldLinkNest "RegionHouse" (219 : Nat) "RegionHouse$Program" "fnTo" "[I" "RegionHouse") ∈ lw_tbl := lw_at lw_m2 60 rfl
theorem qt546 : (Jvm.Cond.fieldLinkNest "RegionHouse$Reader" (170 : Nat) "RegionHouse$Program" "fnTo" "[I" "RegionHouse") ∈ lw_tbl := lw_at lw_m2 61 rfl
theorem qt547 : (Jvm.Cond.fieldLink "RegionHouse$Program" (128 : Nat) "RegionHouse$Program" "functions" "I") ∈ lw_tbl := lw_at lw_m2 62 rfl
theorem qt548 : (Jvm.Cond.fieldLinkNest "RegionHouse$Printer" (89 : Nat) "RegionHouse$Program" "functions" "I" "RegionHouse") ∈ lw_tbl := lw_at lw_m2 63 rfl
theorem qt549 : (Jvm.Cond.fieldLinkNest "RegionHouse$Machine" (80 : Nat) "RegionHouse$Program" "functions" "I" "RegionHouse") ∈ lw_tbl := lw_at lw_m2 64 rfl
theorem qt550 : (Jvm.Cond.fieldLinkNest "RegionHouse" (152 : Nat) "RegionHouse$Program" "functions" "I" "RegionHouse") ∈ lw_tbl := lw_at lw_m2 65 rfl
theorem qt551 : (Jvm.Cond.fieldLinkNest "RegionHouse$Reader" (95 : Nat) "RegionHouse$Program" "functions" "I" "RegionHouse") ∈ lw_tbl := lw_at lw_m2 66 rfl
theorem qt552 : (Jvm.Cond.fieldLinkNest "RegionHouse$Code" (70 : Nat) "RegionHouse$Program" "functions" "I" "RegionHouse") ∈ lw_tbl := lw_at lw_m2 67 rfl
theorem qt553 : (Jvm.Cond.fieldLinkNest "RegionHouse$Regions" (254 : Nat) "RegionHouse$Program" "functions" "I" "RegionHouse") ∈ lw_tbl := lw_at lw_m2 68 rfl
theorem qt633 : (Jvm.Cond.classLink "RegionHouse" (42 : Nat) "RegionHouse$Types") ∈ lw_tbl := lw_at lw_m2 148 rfl
theorem qt634 : (Jvm.Cond.instantiable "RegionHouse$Types" (18 : Nat)) ∈ lw_tbl := lw_at lw_m2 149 rfl
theorem qt635 : (Jvm.Cond.methodLinkNest "RegionHouse" (44 : Nat) ({ cls := "RegionHouse$Types", name := "<init>", desc := "()V" } : Jvm.MethodName) "RegionHouse") ∈ lw_tbl := lw_at lw_m2 150 rfl
theorem qt636 : (Jvm.Cond.instanceMethod ({ cls := "RegionHouse$Types", name := "<init>", desc := "()V" } : Jvm.MethodName)) ∈ lw_tbl := lw_at lw_m2 151 rfl
theorem qt637 : (Jvm.Cond.code ({ cls := "RegionHouse$Types", name := "<init>", desc := "()V" } : Jvm.MethodName) prog_13_method_1_code (1 : Nat) (Option.none : Option Jvm.ClassFile.FieldType)) ∈ lw_tbl := lw_at lw_m2 152 rfl
theorem qt638 : (Jvm.Cond.methodLink "RegionHouse$Types" (3 : Nat) ({ cls := "java/lang/Object", name := "<init>", desc := "()V" } : Jvm.MethodName)) ∈ lw_tbl := lw_at lw_m2 153 rfl
theorem qt639 : (Jvm.Cond.constant "RegionHouse$Types" (9 : Nat) (61440 : Int32)) ∈ lw_tbl := lw_at lw_m2 154 rfl
theorem qt640 : (Jvm.Cond.constant "RegionHouse$Types" (37 : Nat) (106496 : Int32)) ∈ lw_tbl := lw_at lw_m2 155 rfl
theorem qt641 : (Jvm.Cond.fieldLink "RegionHouse$Types" (10 : Nat) "RegionHouse$Types" "kinds" "[I") ∈ lw_tbl := lw_at lw_m2 156 rfl
theorem qt642 : (Jvm.Cond.fieldLink "RegionHouse$Types" (16 : Nat) "RegionHouse$Types" "links" "[I") ∈ lw_tbl := lw_at lw_m2 157 rfl
theorem qt643 : (Jvm.Cond.fieldLink "RegionHouse$Types" (19 : Nat) "RegionHouse$Types" "a" "[I") ∈ lw_tbl := lw_at lw_m2 158 rfl
theorem qt644 : (Jvm.Cond.fieldLink "RegionHouse$Types" (22 : Nat) "RegionHouse$Types" "b" "[I") ∈ lw_tbl := lw_at lw_m2 159 rfl
theorem qt645 : (Jvm.Cond.fieldLink "RegionHouse$Types" (25 : Nat) "RegionHouse$Types" "holdFirst" "[I") ∈ lw_tbl := lw_at lw_m2 160 rfl
theorem qt646 : (Jvm.Cond.fieldLink "RegionHouse$Types" (28 : Nat) "RegionHouse$Types" "holdLast" "[I") ∈ lw_tbl := lw_at lw_m2 161 rfl
theorem qt647 : (Jvm.Cond.fieldLink "RegionHouse$Types" (31 : Nat) "RegionHouse$Types" "stamps" "[I") ∈ lw_tbl := lw_at lw_m2 162 rfl
theorem qt648 : (Jvm.Cond.fieldLink "RegionHouse$Types" (34 : Nat) "RegionHouse$Types" "images" "[I") ∈ lw_tbl := lw_at lw_m2 163 rfl
theorem qt649 : (Jvm.Cond.fieldLink "RegionHouse$Types" (47 : Nat) "RegionHouse$Types" "size" "I") ∈ lw_tbl := lw_at lw_m2 164 rfl
theorem qt650 : (Jvm.Cond.fieldLink "RegionHouse$Types" (38 : Nat) "RegionHouse$Types" "held" "[I") ∈ lw_tbl := lw_at lw_m2 165 rfl
theorem qt651 : (Jvm.Cond.fieldLink "RegionHouse$Types" (41 : Nat) "RegionHouse$Types" "heldNext" "[I") ∈ lw_tbl := lw_at lw_m2 166 rfl
theorem qt652 : (Jvm.Cond.fieldLink "RegionHouse$Types" (51 : Nat) "RegionHouse$Types" "holds" "I") ∈ lw_tbl := lw_at lw_m2 167 rfl
theorem qt653 : (Jvm.Cond.fieldLink "RegionHouse$Types" (54 : Nat) "RegionHouse$Types" "stamp" "I") ∈ lw_tbl := lw_at lw_m2 168 rfl
theorem qt654 : (Jvm.Cond.fieldLink "RegionHouse$Types" (44 : Nat) "RegionHouse$Types" "work" "[I") ∈ lw_tbl := lw_at lw_m2 169 rfl
theorem qt655 : (Jvm.Cond.fieldLink "RegionHouse$Types" (74 : Nat) "RegionHouse$Types" "works" "I") ∈ lw_tbl := lw_at lw_m2 170 rfl
theorem qt656 : (Jvm.Cond.fieldLink "RegionHouse$Types" (103 : Nat) "RegionHouse$Types" "reached" "I") ∈ lw_tbl := lw_at lw_m2 171 rfl
theorem qt657 : (Jvm.Cond.fieldLink "RegionHouse$Types" (106 : Nat) "RegionHouse$Types" "unknowns" "I") ∈ lw_tbl := lw_at lw_m2 172 rfl
theorem qt658 : (Jvm.Cond.fieldLink "RegionHouse$Types" (109 : Nat) "RegionHouse$Types" "heldIn" "I") ∈ lw_tbl := lw_at lw_m2 173 rfl
theorem qt696 : (Jvm.Cond.classLink "RegionHouse" (49 : Nat) "RegionHouse$Reader") ∈ lw_tbl := lw_at lw_m2 211 rfl
theorem qt697 : (Jvm.Cond.instantiable "RegionHouse$Reader" (13 : Nat)) ∈ lw_tbl := lw_at lw_m2 212 rfl
theorem qt698 : (Jvm.Cond.methodLink "RegionHouse" (51 : Nat) ({ cls := "RegionHouse$Reader", name := "<init>", desc := "(LRegionHouse$Lexemes;LRegionHouse$Program;LRegionHouse$Fault;)V" } : Jvm.MethodName)) ∈ lw_tbl := lw_at lw_m2 213 rfl
theorem qt699 : (Jvm.Cond.instanceMethod ({ cls := "RegionHouse$Reader", name := "<init>", desc := "(LRegionHouse$Lexemes;LRegionHouse$Program;LRegionHouse$Fault;)V" } : Jvm.MethodName)) ∈ lw_tbl := lw_at lw_m2 214 rfl
theorem qt700 : (Jvm.Cond.code ({ cls := "RegionHouse$Reader", name := "<init>", desc := "(LRegionHouse$Lexemes;LRegionHouse$Program;LRegionHouse$Fault;)V" } : Jvm.MethodName) prog_9_method_1_code (4 : Nat) (Option.none : Option Jvm.ClassFile.FieldType)) ∈ lw_tbl := lw_at lw_m2 215 rfl
theorem qt701 : (Jvm.Cond.methodLink "RegionHouse$Reader" (3 : Nat) ({ cls := "java/lang/Object", name := "<init>", desc := "()V" } : Jvm.MethodName)) ∈ lw_tbl := lw_at lw_m2 216 rfl
theorem qt702 : (Jvm.Cond.fieldLink "RegionHouse$Reader" (20 : Nat) "RegionHouse$Reader" "row" "LRegionHouse$Lexemes;") ∈ lw_tbl := lw_at lw_m2 217 rfl
theorem qt703 : (Jvm.Cond.fieldLink "RegionHouse$Reader" (24 : Nat) "RegionHouse$Reader" "made" "LRegionHouse$Program;") ∈ lw_tbl := lw_at lw_m2 218 rfl
theorem qt704 : (Jvm.Cond.fieldLink "RegionHouse$Reader" (28 : Nat) "RegionHouse$Reader" "fault" "LRegionHouse$Fault;") ∈ lw_tbl := lw_at lw_m2 219 rfl
theorem qt705 : (Jvm.Cond.fieldLink "RegionHouse$Reader" (44 : Nat) "RegionHouse$Reader" "at" "I") ∈ lw_tbl := lw_at lw_m2 220 rfl
theorem qt706 : (Jvm.Cond.fieldLink "RegionHouse$Reader" (146 : Nat) "RegionHouse$Reader" "deep" "I") ∈ lw_tbl := lw_at lw_m2 221 rfl
theorem qt707 : (Jvm.Cond.fieldLink "RegionHouse$Reader" (132 : Nat) "RegionHouse$Reader" "scope" "I") ∈ lw_tbl := lw_at lw_m2 222 rfl
theorem qt708 : (Jvm.Cond.fieldLink "RegionHouse$Reader" (86 : Nat) "RegionHouse$Reader" "fn" "I") ∈ lw_tbl := lw_at lw_m2 223 rfl
theorem qt709 : (Jvm.Cond.fieldLink "RegionHouse$Reader" (93 : Nat) "RegionHouse$Reader" "function" "I") ∈ lw_tbl := lw_at lw_m2 224 rfl
theorem qt710 : (Jvm.Cond.fieldLink "RegionHouse$Reader" (216 : Nat) "RegionHouse$Reader" "low" "I") ∈ lw_tbl := lw_at lw_m2 225 rfl
theorem qt711 : (Jvm.Cond.fieldLink "RegionHouse$Reader" (196 : Nat) "RegionHouse$Reader" "high" "I") ∈ lw_tbl := lw_at lw_m2 226 rfl
theorem qt712 : (Jvm.Cond.fieldLink "RegionHouse$Reader" (11 : Nat) "RegionHouse$Reader" "held" "[I") ∈ lw_tbl := lw_at lw_m2 227 rfl
theorem qt713 : (Jvm.Cond.fieldLink "RegionHouse$Reader" (64 : Nat) "RegionHouse$Reader" "holds" "I") ∈ lw_tbl := lw_at lw_m2 228 rfl
theorem qt714 : (Jvm.Cond.fieldLink "RegionHouse$Reader" (17 : Nat) "RegionHouse$Reader" "depths" "[I") ∈ lw_tbl := lw_at lw_m2 229 rfl
theorem qt742 : (Jvm.Cond.classLink "RegionHouse" (58 : Nat) "RegionHouse$Typing") ∈ lw_tbl := lw_at lw_m3 17 rfl
theorem qt743 : (Jvm.Cond.instantiable "RegionHouse$Typing" (14 : Nat)) ∈ lw_tbl := lw_at lw_m3 18 rfl
theorem qt744 : (Jvm.Cond.methodLink "RegionHouse" (60 : Nat) ({ cls := "RegionHouse$Typing", name := "<init>", desc := "(LRegionHouse$Lexemes;LRegionHouse$Program;LRegionHouse$Types;LRegionHouse$Fault;)V" } : Jvm.MethodName)) ∈ lw_tbl := lw_at lw_m3 19 rfl
theorem qt745 : (Jvm.Cond.instanceMethod ({ cls := "RegionHouse$Typing", name := "<init>", desc := "(LRegionHouse$Lexemes;LRegionHouse$Program;LRegionHouse$Types;LRegionHouse$Fault;)V" } : Jvm.MethodName)) ∈ lw_tbl := lw_at lw_m3 20 rfl
theorem qt746 : (Jvm.Cond.code ({ cls := "RegionHouse$Typing", name := "<init>", desc := "(LRegionHouse$Lexemes;LRegionHouse$Program;LRegionHouse$Types;LRegionHouse$Fault;)V" } : Jvm.MethodName) prog_14_method_1_code (5 : Nat) (Option.none : Option Jvm.ClassFile.FieldType)) ∈ lw_tbl := lw_at lw_m3 21 rfl
theorem qt747 : (Jvm.Cond.methodLink "RegionHouse$Typing" (3 : Nat) ({ cls := "java/lang/Object", name := "<init>", desc := "()V" } : Jvm.MethodName)) ∈ lw_tbl := lw_at lw_m3 22 rfl
theorem qt748 : (Jvm.Cond.fieldLink "RegionHouse$Typing" (38 : Nat) "RegionHouse$Typing" "row" "LRegionHouse$Lexemes;") ∈ lw_tbl := lw_at lw_m3 23 rfl
theorem qt749 : (Jvm.Cond.fieldLink "RegionHouse$Typing" (42 : Nat) "RegionHouse$Typing" "made" "LRegionHouse$Program;") ∈ lw_tbl := lw_at lw_m3 24 rfl
theorem qt750 : (Jvm.Cond.fieldLink "RegionHouse$Typing" (46 : Nat) "RegionHouse$Typing" "types" "LRegionHouse$Types;") ∈ lw_tbl := lw_at lw_m3 25 rfl
theorem qt751 : (Jvm.Cond.fieldLink "RegionHouse$Typing" (50 : Nat) "RegionHouse$Typing" "fault" "LRegionHouse$Fault;") ∈ lw_tbl := lw_at lw_m3 26 rfl
theorem qt752 : (Jvm.Cond.fieldLink "RegionHouse$Typing" (11 : Nat) "RegionHouse$Typing" "of" "[I") ∈ lw_tbl := lw_at lw_m3 27 rfl
theorem qt753 : (Jvm.Cond.fieldLink "RegionHouse$Typing" (17 : Nat) "RegionHouse$Typing" "variables" "[I") ∈ lw_tbl := lw_at lw_m3 28 rfl
theorem qt754 : (Jvm.Cond.fieldLink "RegionHouse$Typing" (20 : Nat) "RegionHouse$Typing" "results" "[I") ∈ lw_tbl := lw_at lw_m3 29 rfl
theorem qt755 : (Jvm.Cond.fieldLink "RegionHouse$Typing" (23 : Nat) "RegionHouse$Typing" "callFrom" "[I") ∈ lw_tbl := lw_at lw_m3 30 rfl
theorem qt756 : (Jvm.Cond.fieldLink "RegionHouse$Typing" (26 : Nat) "RegionHouse$Typing" "calls" "[I") ∈ lw_tbl := lw_at lw_m3 31 rfl
theorem qt757 : (Jvm.Cond.fieldLink "RegionHouse$Typing" (59 : Nat) "RegionHouse$Typing" "size" "I") ∈ lw_tbl := lw_at lw_m3 32 rfl
theorem qt758 : (Jvm.Cond.fieldLink "RegionHouse$Typing" (29 : Nat) "RegionHouse$Typing" "regionFrom" "[I") ∈ lw_tbl := lw_at lw_m3 33 rfl
theorem qt759 : (Jvm.Cond.fieldLink "RegionHouse$Typing" (32 : Nat) "RegionHouse$Typing" "regionCount" "[I") ∈ lw_tbl := lw_at lw_m3 34 rfl
theorem qt760 : (Jvm.Cond.fieldLink "RegionHouse$Typing" (35 : Nat) "RegionHouse$Typing" "regions" "[I") ∈ lw_tbl := lw_at lw_m3 35 rfl
theorem qt761 : (Jvm.Cond.fieldLink "RegionHouse$Typing" (63 : Nat) "RegionHouse$Typing" "regionSize" "I") ∈ lw_tbl := lw_at lw_m3 36 rfl
theorem qt791 : (Jvm.Cond.classLink "RegionHouse" (67 : Nat) "RegionHouse$Regions") ∈ lw_tbl := lw_at lw_m3 66 rfl
theorem qt792 : (Jvm.Cond.instantiable "RegionHouse$Regions" (20 : Nat)) ∈ lw_tbl := lw_at lw_m3 67 rfl
theorem qt793 : (Jvm.Cond.methodLink "RegionHouse" (69 : Nat) ({ cls := "RegionHouse$Regions", name := "<init>", desc := "(LRegionHouse$Lexemes;LRegionHouse$Program;LRegionHouse$Types;LRegionHouse$Typing;LRegionHouse$Fault;)V" } : Jvm.MethodName)) ∈ lw_tbl := lw_at lw_m3 68 rfl
theorem qt794 : (Jvm.Cond.instanceMethod ({ cls := "RegionHouse$Regions", name := "<init>", desc := "(LRegionHouse$Lexemes;LRegionHouse$Program;LRegionHouse$Types;LRegionHouse$Typing;LRegionHouse$Fault;)V" } : Jvm.MethodName)) ∈ lw_tbl := lw_at lw_m3 69 rfl
theorem qt795 : (Jvm.Cond.code ({ cls := "RegionHouse$Regions", name := "<init>", desc := "(LRegionHouse$Lexemes;LRegionHouse$Program;LRegionHouse$Types;LRegionHouse$Typing;LRegionHouse$Fault;)V" } : Jvm.MethodName) prog_10_method_1_code (6 : Nat) (Option.none : Option Jvm.ClassFile.FieldType)) ∈ lw_tbl := lw_at lw_m3 70 rfl
theorem qt796 : (Jvm.Cond.methodLink "RegionHouse$Regions" (3 : Nat) ({ cls := "java/lang/Object", name := "<init>", desc := "()V" } : Jvm.MethodName)) ∈ lw_tbl := lw_at lw_m3 71 rfl
theorem qt797 : (Jvm.Cond.fieldLink "RegionHouse$Regions" (51 : Nat) "RegionHouse$Regions" "row" "LRegionHouse$Lexemes;") ∈ lw_tbl := lw_at lw_m3 72 rfl
theorem qt798 : (Jvm.Cond.fieldLink "RegionHouse$Regions" (55 : Nat) "RegionHouse$Regions" "made" "LRegionHouse$Program;") ∈ lw_tbl := lw_at lw_m3 73 rfl
theorem qt799 : (Jvm.Cond.fieldLink "RegionHouse$Regions" (59 : Nat) "RegionHouse$Regions" "types" "LRegionHouse$Types;") ∈ lw_tbl := lw_at lw_m3 74 rfl
theorem qt800 : (Jvm.Cond.fieldLink "RegionHouse$Regions" (63 : Nat) "RegionHouse$Regions" "typing" "LRegionHouse$Typing;") ∈ lw_tbl := lw_at lw_m3 75 rfl
theorem qt801 : (Jvm.Cond.fieldLink "RegionHouse$Regions" (67 : Nat) "RegionHouse$Regions" "fault" "LRegionHouse$Fault;") ∈ lw_tbl := lw_at lw_m3 76 rfl
theorem qt802 : (Jvm.Cond.fieldLink "RegionHouse$Regions" (9 : Nat) "RegionHouse$Regions" "put" "[I") ∈ lw_tbl := lw_at lw_m3 77 rfl
theorem qt803 : (Jvm.Cond.fieldLink "RegionHouse$Regions" (15 : Nat) "RegionHouse$Regions" "own" "[I") ∈ lw_tbl := lw_at lw_m3 78 rfl
theorem qt804 : (Jvm.Cond.fieldLink "RegionHouse$Regions" (71 : Nat) "RegionHouse$Regions" "size" "I") ∈ lw_tbl := lw_at lw_m3 79 rfl
theorem qt805 : (Jvm.Cond.fieldLink "RegionHouse$Regions" (20 : Nat) "RegionHouse$Regions" "from" "[I") ∈ lw_tbl := lw_at lw_m3 80 rfl
theorem qt806 : (Jvm.Cond.fieldLink "RegionHouse$Regions" (23 : Nat) "RegionHouse$Regions" "selves" "[I") ∈ lw_tbl := lw_at lw_m3 81 rfl
theorem qt807 : (Jvm.Cond.fieldLink "RegionHouse$Regions" (26 : Nat) "RegionHouse$Regions" "first" "[I") ∈ lw_tbl := lw_at lw_m3 82 rfl
theorem qt808 : (Jvm.Cond.fieldLink "RegionHouse$Regions" (29 : Nat) "RegionHouse$Regions" "count" "[I") ∈ lw_tbl := lw_at lw_m3 83 rfl
theorem qt809 : (Jvm.Cond.fieldLink "RegionHouse$Regions" (32 : Nat) "RegionHouse$Regions" "boxes" "[I") ∈ lw_tbl := lw_at lw_m3 84 rfl
theorem qt810 : (Jvm.Cond.fieldLink "RegionHouse$Regions" (35 : Nat) "RegionHouse$Regions" "owners" "[I") ∈ lw_tbl := lw_at lw_m3 85 rfl
theorem qt811 : (Jvm.Cond.fieldLink "RegionHouse$Regions" (75 : Nat) "RegionHouse$Regions" "regions" "I") ∈ lw_tbl := lw_at lw_m3 86 rfl
theorem qt812 : (Jvm.Cond.fieldLink "RegionHouse$Regions" (38 : Nat) "RegionHouse$Regions" "keptFrom" "[I") ∈ lw_tbl := lw_at lw_m3 87 rfl
theorem qt813 : (Jvm.Cond.fieldLink "RegionHouse$Regions" (41 : Nat) "RegionHouse$Regions" "keptCount" "[I") ∈ lw_tbl := lw_at lw_m3 88 rfl
theorem qt814 : (Jvm.Cond.fieldLink "RegionHouse$Regions" (44 : Nat) "RegionHouse$Regions" "kept" "[I") ∈ lw_tbl := lw_at lw_m3 89 rfl
theorem qt815 : (Jvm.Cond.fieldLink "RegionHouse$Regions" (78 : Nat) "RegionHouse$Regions" "keeps" "I") ∈ lw_tbl := lw_at lw_m3 90 rfl
theorem qt816 : (Jvm.Cond.fieldLink "RegionHouse$Regions" (47 : Nat) "RegionHouse$Regions" "marks" "[Z") ∈ lw_tbl := lw_at lw_m3 91 rfl
theorem qt858 : (Jvm.Cond.arrayClass Jvm.ClassFile.FieldType.boolean) ∈ lw_tbl := lw_at lw_m3 133 rfl
theorem qt859 : (Jvm.Cond.classLink "RegionHouse" (76 : Nat) "RegionHouse$Printer") ∈ lw_tbl := lw_at lw_m3 134 rfl
theorem qt860 : (Jvm.Cond.instantiable "RegionHouse$Printer" (15 : Nat)) ∈ lw_tbl := lw_at lw_m3 135 rfl
theorem qt861 : (Jvm.Cond.methodLink "RegionHouse" (78 : Nat) ({ cls := "RegionHouse$Printer", name := "<init>", desc := "(LRegionHouse$Lexemes;LRegionHouse$Program;LRegionHouse$Types;LRegionHouse$Typing;LRegionHouse$Regions;LRegionHouse$Signs;)V" } : Jvm.MethodName)) ∈ lw_tbl := lw_at lw_m3 136 rfl
theorem qt862 : (Jvm.Cond.instanceMethod ({ cls := "RegionHouse$Printer", name := "<init>", desc := "(LRegionHouse$Lexemes;LRegionHouse$Program;LRegionHouse$Types;LRegionHouse$Typing;LRegionHouse$Regions;LRegionHouse$Signs;)V" } : Jvm.MethodName)) ∈ lw_tbl := lw_at lw_m3 137 rfl
theorem qt863 : (Jvm.Cond.code ({ cls := "RegionHouse$Printer", name := "<init>", desc := "(LRegionHouse$Lexemes;LRegionHouse$Program;LRegionHouse$Types;LRegionHouse$Typing;LRegionHouse$Regions;LRegionHouse$Signs;)V" } : Jvm.MethodName) prog_7_method_1_code (7 : Nat) (Option.none : Option Jvm.ClassFile.FieldType)) ∈ lw_tbl := lw_at lw_m3 138 rfl
theorem qt864 : (Jvm.Cond.methodLink "RegionHouse$Printer" (3 : Nat) ({ cls := "java/lang/Object", name := "<init>", desc := "()V" } : Jvm.MethodName)) ∈ lw_tbl := lw_at lw_m3 139 rfl
theorem qt865 : (Jvm.Cond.fieldLink "RegionHouse$Printer" (32 : Nat) "RegionHouse$Printer" "row" "LRegionHouse$Lexemes;") ∈ lw_tbl := lw_at lw_m3 140 rfl
theorem qt866 : (Jvm.Cond.fieldLink "RegionHouse$Printer" (36 : Nat) "RegionHouse$Printer" "made" "LRegionHouse$Program;") ∈ lw_tbl := lw_at lw_m3 141 rfl
theorem qt867 : (Jvm.Cond.fieldLink "RegionHouse$Printer" (40 : Nat) "RegionHouse$Printer" "types" "LRegionHouse$Types;") ∈ lw_tbl := lw_at lw_m3 142 rfl
theorem qt868 : (Jvm.Cond.fieldLink "RegionHouse$Printer" (44 : Nat) "RegionHouse$Printer" "typing" "LRegionHouse$Typing;") ∈ lw_tbl := lw_at lw_m3 143 rfl
theorem qt869 : (Jvm.Cond.fieldLink "RegionHouse$Printer" (48 : Nat) "RegionHouse$Printer" "regions" "LRegionHouse$Regions;") ∈ lw_tbl := lw_at lw_m3 144 rfl
theorem qt870 : (Jvm.Cond.fieldLink "RegionHouse$Printer" (52 : Nat) "RegionHouse$Printer" "out" "LRegionHouse$Signs;") ∈ lw_tbl := lw_at lw_m3 145 rfl
theorem qt871 : (Jvm.Cond.fieldLink "RegionHouse$Printer" (11 : Nat) "RegionHouse$Printer" "opens" "[I") ∈ lw_tbl := lw_at lw_m3 146 rfl
theorem qt872 : (Jvm.Cond.fieldLink "RegionHouse$Printer" (17 : Nat) "RegionHouse$Printer" "shuts" "[I") ∈ lw_tbl := lw_at lw_m3 147 rfl
theorem qt873 : (Jvm.Cond.fieldLink "RegionHouse$Printer" (20 : Nat) "RegionHouse$Printer" "openNext" "[I") ∈ lw_tbl := lw_at lw_m3 148 rfl
theorem qt874 : (Jvm.Cond.fieldLink "RegionHouse$Printer" (23 : Nat) "RegionHouse$Printer" "shutNext" "[I") ∈ lw_tbl := lw_at lw_m3 149 rfl
theorem qt875 : (Jvm.Cond.fieldLink "RegionHouse$Printer" (26 : Nat) "RegionHouse$Printer" "notes" "[I") ∈ lw_tbl := lw_at lw_m3 150 rfl
theorem qt876 : (Jvm.Cond.fieldLink "RegionHouse$Printer" (56 : Nat) "RegionHouse$Printer" "begins" "Z") ∈ lw_tbl := lw_at lw_m3 151 rfl
theorem qt877 : (Jvm.Cond.fieldLink "RegionHouse$Printer" (29 : Nat) "RegionHouse$Printer" "unknowns" "[I") ∈ lw_tbl := lw_at lw_m3 152 rfl
theorem qt878 : (Jvm.Cond.fieldLink "RegionHouse$Printer" (180 : Nat) "RegionHouse$Printer" "names" "I") ∈ lw_tbl := lw_at lw_m3 153 rfl
theorem qt879 : (Jvm.Cond.fieldLink "RegionHouse$Printer" (66 : Nat) "RegionHouse$Printer" "function" "I") ∈ lw_tbl := lw_at lw_m3 154 rfl
theorem qt911 : (Jvm.Cond.classLink "RegionHouse" (85 : Nat) "RegionHouse$Code") ∈ lw_tbl := lw_at lw_m3 186 rfl
theorem qt912 : (Jvm.Cond.instantiable "RegionHouse$Code" (11 : Nat)) ∈ lw_tbl := lw_at lw_m3 187 rfl
theorem qt913 : (Jvm.Cond.methodLink "RegionHouse" (87 : Nat) ({ cls := "RegionHouse$Code", name := "<init>", desc := "(LRegionHouse$Program;LRegionHouse$Typing;LRegionHouse$Regions;)V" } : Jvm.MethodName)) ∈ lw_tbl := lw_at lw_m3 188 rfl
theorem qt914 : (Jvm.Cond.instanceMethod ({ cls := "RegionHouse$Code", name := "<init>", desc := "(LRegionHouse$Program;LRegionHouse$Typing;LRegionHouse$Regions;)V" } : Jvm.MethodName)) ∈ lw_tbl := lw_at lw_m3 189 rfl
theorem qt915 : (Jvm.Cond.code ({ cls := "RegionHouse$Code", name := "<init>", desc := "(LRegionHouse$Program;LRegionHouse$Typing;LRegionHouse$Regions;)V" } : Jvm.MethodName) prog_2_method_1_code (4 : Nat) (Option.none : Option Jvm.ClassFile.FieldType)) ∈ lw_tbl := lw_at lw_m3 190 rfl
theorem qt916 : (Jvm.Cond.methodLink "RegionHouse$Code" (3 : Nat) ({ cls := "java/lang/Object", name := "<init>", desc := "()V" } : Jvm.MethodName)) ∈ lw_tbl := lw_at lw_m3 191 rfl
theorem qt917 : (Jvm.Cond.fieldLink "RegionHouse$Code" (29 : Nat) "RegionHouse$Code" "made" "LRegionHouse$Program;") ∈ lw_tbl := lw_at lw_m3 192 rfl
theorem qt918 : (Jvm.Cond.fieldLink "RegionHouse$Code" (33 : Nat) "RegionHouse$Code" "typing" "LRegionHouse$Typing;") ∈ lw_tbl := lw_at lw_m3 193 rfl
theorem qt919 : (Jvm.Cond.fieldLink "RegionHouse$Code" (37 : Nat) "RegionHouse$Code" "regions" "LRegionHouse$Regions;") ∈ lw_tbl := lw_at lw_m3 194 rfl
theorem qt920 : (Jvm.Cond.fieldLink "RegionHouse$Code" (9 : Nat) "RegionHouse$Code" "row" "[I") ∈ lw_tbl := lw_at lw_m3 195 rfl
theorem qt921 : (Jvm.Cond.fieldLink "RegionHouse$Code" (50 : Nat) "RegionHouse$Code" "size" "I") ∈ lw_tbl := lw_at lw_m3 196 rfl
theorem qt922 : (Jvm.Cond.fieldLink "RegionHouse$Code" (17 : Nat) "RegionHouse$Code" "entries" "[I") ∈ lw_tbl := lw_at lw_m3 197 rfl
theorem qt923 : (Jvm.Cond.fieldLink "RegionHouse$Code" (20 : Nat) "RegionHouse$Code" "fnEntries" "[I") ∈ lw_tbl := lw_at lw_m3 198 rfl
theorem qt924 : (Jvm.Cond.fieldLink "RegionHouse$Code" (23 : Nat) "RegionHouse$Code" "fnFunctions" "[I") ∈ lw_tbl := lw_at lw_m3 199 rfl
theorem qt925 : (Jvm.Cond.fieldLink "RegionHouse$Code" (26 : Nat) "RegionHouse$Code" "slots" "[I") ∈ lw_tbl := lw_at lw_m3 200 rfl
theorem qt926 : (Jvm.Cond.fieldLink "RegionHouse$Code" (67 : Nat) "RegionHouse$Code" "function" "I") ∈ lw_tbl := lw_at lw_m3 201 rfl
theorem qt927 : (Jvm.Cond.fieldLink "RegionHouse$Code" (73 : Nat) "RegionHouse$Code" "fn" "I") ∈ lw_tbl := lw_at lw_m3 202 rfl
theorem qt951 : (Jvm.Cond.classLink "RegionHouse" (94 : Nat) "RegionHouse$Stack") ∈ lw_tbl := lw_at lw_m3 226 rfl
theorem qt952 : (Jvm.Cond.instantiable "RegionHouse$Stack" (3 : Nat)) ∈ lw_tbl := lw_at lw_m3 227 rfl
theorem qt953 : (Jvm.Cond.methodLinkNest "RegionHouse" (96 : Nat) ({ cls := "RegionHouse$Stack", name := "<init>", desc := "()V" } : Jvm.MethodName) "RegionHouse") ∈ lw_tbl := lw_at lw_m3 228 rfl
theorem qt954 : (Jvm.Cond.instanceMethod ({ cls := "RegionHouse$Stack", name := "<init>", desc := "()V" } : Jvm.MethodName)) ∈ lw_tbl := lw_at lw_m3 229 rfl
theorem qt955 : (Jvm.Cond.code ({ cls := "RegionHouse$Stack", name := "<init>", desc := "()V" } : Jvm.MethodName) prog_12_method_1_code (1 : Nat) (Option.none : Option Jvm.ClassFile.FieldType)) ∈ lw_tbl := lw_at lw_m3 230 rfl
theorem qt956 : (Jvm.Cond.methodLink "RegionHouse$Stack" (1 : Nat) ({ cls := "java/lang/Object", name := "<init>", desc := "()V" } : Jvm.MethodName)) ∈ lw_tbl := lw_at lw_m3 231 rfl
theorem qt957 : (Jvm.Cond.fieldLink "RegionHouse$Stack" (9 : Nat) "RegionHouse$Stack" "values" "[I") ∈ lw_tbl := lw_at lw_m3 232 rfl
theorem qt958 : (Jvm.Cond.fieldLink "RegionHouse$Stack" (13 : Nat) "RegionHouse$Stack" "sorts" "[B") ∈ lw_tbl := lw_at lw_m3 233 rfl
theorem qt959 : (Jvm.Cond.fieldLink "RegionHouse$Stack" (17 : Nat) "RegionHouse$Stack" "size" "I") ∈ lw_tbl := lw_at lw_m3 234 rfl
theorem qt967 : (Jvm.Cond.classLink "RegionHouse" (101 : Nat) "RegionHouse$Pool") ∈ lw_tbl := lw_at lw_m4 2 rfl
theorem qt968 : (Jvm.Cond.instantiable "RegionHouse$Pool" (27 : Nat)) ∈ lw_tbl := lw_at lw_m4 3 rfl
theorem qt969 : (Jvm.Cond.methodLink "RegionHouse" (103 : Nat) ({ cls := "RegionHouse$Pool", name := "<init>", desc := "(LRegionHouse$Stack;LRegionHouse$Code;)V" } : Jvm.MethodName)) ∈ lw_tbl := lw_at lw_m4 4 rfl
theorem qt970 : (Jvm.Cond.instanceMethod ({ cls := "RegionHouse$Pool", name := "<init>", desc := "(LRegionHouse$Stack;LRegionHouse$Code;)V" } : Jvm.MethodName)) ∈ lw_tbl := lw_at lw_m4 5 rfl
theorem qt971 : (Jvm.Cond.code ({ cls := "RegionHouse$Pool", name := "<init>", desc := "(LRegionHouse$Stack;LRegionHouse$Code;)V" } : Jvm.MethodName) prog_6_method_1_code (3 : Nat) (Option.none : Option Jvm.ClassFile.FieldType)) ∈ lw_tbl := lw_at lw_m4 6 rfl
theorem qt972 : (Jvm.Cond.methodLink "RegionHouse$Pool" (3 : Nat) ({ cls := "java/lang/Object", name := "<init>", desc := "()V" } : Jvm.MethodName)) ∈ lw_tbl := lw_at lw_m4 7 rfl
theorem qt973 : (Jvm.Cond.constant "RegionHouse$Pool" (11 : Nat) (51200 : Int32)) ∈ lw_tbl := lw_at lw_m4 8 rfl
theorem qt974 : (Jvm.Cond.methodLink "RegionHouse$Pool" (68 : Nat) ({ cls := "RegionHouse$Pool", name := "release", desc := "()V" } : Jvm.MethodName)) ∈ lw_tbl := lw_at lw_m4 9 rfl
theorem qt975 : (Jvm.Cond.instanceMethod ({ cls := "RegionHouse$Pool", name := "release", desc := "()V" } : Jvm.MethodName)) ∈ lw_tbl := lw_at lw_m4 10 rfl
theorem qt976 : (Jvm.Cond.selects "RegionHouse$Pool" ({ cls := "RegionHouse$Pool", name := "release", desc := "()V" } : Jvm.MethodName) ({ cls := "RegionHouse$Pool", name := "release", desc := "()V" } : Jvm.MethodName)) ∈ lw_tbl := lw_at lw_m4 11 rfl
theorem qt977 : (Jvm.Cond.code ({ cls := "RegionHouse$Pool", name := "release", desc := "()V" } : Jvm.MethodName) prog_6_method_3_code (2 : Nat) (Option.none : Option Jvm.ClassFile.FieldType)) ∈ lw_tbl := lw_at lw_m4 12 rfl
theorem qt978 : (Jvm.Cond.fieldLink "RegionHouse$Pool" (60 : Nat) "RegionHouse$Pool" "stack" "LRegionHouse$Stack;") ∈ lw_tbl := lw_at lw_m4 13 rfl
theorem qt979 : (Jvm.Cond.fieldLink "RegionHouse$Pool" (64 : Nat) "RegionHouse$Pool" "code" "LRegionHouse$Code;") ∈ lw_tbl := lw_at lw_m4 14 rfl
theorem qt980 : (Jvm.Cond.fieldLink "RegionHouse$Pool" (12 : Nat) "RegionHouse$Pool" "words" "[I") ∈ lw_tbl := lw_at lw_m4 15 rfl
theorem qt981 : (Jvm.Cond.fieldLink "RegionHouse$Pool" (16 : Nat) "RegionHouse$Pool" "sorts" "[B") ∈ lw_tbl := lw_at lw_m4 16 rfl
theorem qt982 : (Jvm.Cond.fieldLink "RegionHouse$Pool" (20 : Nat) "RegionHouse$Pool" "pages" "I") ∈ lw_tbl := lw_at lw_m4 17 rfl
theorem qt983 : (Jvm.Cond.fieldLink "RegionHouse$Pool" (24 : Nat) "RegionHouse$Pool" "width" "I") ∈ lw_tbl := lw_at lw_m4 18 rfl
theorem qt984 : (Jvm.Cond.fieldLink "RegionHouse$Pool" (27 : Nat) "RegionHouse$Pool" "nexts" "[I") ∈ lw_tbl := lw_at lw_m4 19 rfl
theorem qt985 : (Jvm.Cond.fieldLink "RegionHouse$Pool" (30 : Nat) "RegionHouse$Pool" "regionOf" "[I") ∈ lw_tbl := lw_at lw_m4 20 rfl
theorem qt986 : (Jvm.Cond.fieldLink "RegionHouse$Pool" (77 : Nat) "RegionHouse$Pool" "free" "I") ∈ lw_tbl := lw_at lw_m4 21 rfl
theorem qt987 : (Jvm.Cond.fieldLink "RegionHouse$Pool" (74 : Nat) "RegionHouse$Pool" "used" "I") ∈ lw_tbl := lw_at lw_m4 22 rfl
theorem qt988 : (Jvm.Cond.fieldLink "RegionHouse$Pool" (80 : Nat) "RegionHouse$Pool" "most" "I") ∈ lw_tbl := lw_at lw_m4 23 rfl
theorem qt989 : (Jvm.Cond.fieldLink "RegionHouse$Pool" (33 : Nat) "RegionHouse$Pool" "functions" "[I") ∈ lw_tbl := lw_at lw_m4 24 rfl
theorem qt990 : (Jvm.Cond.fieldLink "RegionHouse$Pool" (36 : Nat) "RegionHouse$Pool" "numbers" "[I") ∈ lw_tbl := lw_at lw_m4 25 rfl
theorem qt991 : (Jvm.Cond.fieldLink "RegionHouse$Pool" (39 : Nat) "RegionHouse$Pool" "firsts" "[I") ∈ lw_tbl := lw_at lw_m4 26 rfl
theorem qt992 : (Jvm.Cond.fieldLink "RegionHouse$Pool" (42 : Nat) "RegionHouse$Pool" "latest" "[I") ∈ lw_tbl := lw_at lw_m4 27 rfl
theorem qt993 : (Jvm.Cond.fieldLink "RegionHouse$Pool" (45 : Nat) "RegionHouse$Pool" "filled" "[I") ∈ lw_tbl := lw_at lw_m4 28 rfl
theorem qt994 : (Jvm.Cond.fieldLink "RegionHouse$Pool" (48 : Nat) "RegionHouse$Pool" "objects" "[I") ∈ lw_tbl := lw_at lw_m4 29 rfl
theorem qt995 : (Jvm.Cond.fieldLink "RegionHouse$Pool" (51 : Nat) "RegionHouse$Pool" "pageCounts" "[I") ∈ lw_tbl := lw_at lw_m4 30 rfl
theorem qt996 : (Jvm.Cond.fieldLink "RegionHouse$Pool" (54 : Nat) "RegionHouse$Pool" "before" "[I") ∈ lw_tbl := lw_at lw_m4 31 rfl
theorem qt997 : (Jvm.Cond.fieldLink "RegionHouse$Pool" (71 : Nat) "RegionHouse$Pool" "regions" "I") ∈ lw_tbl := lw_at lw_m4 32 rfl
theorem qt998 : (Jvm.Cond.fieldLink "RegionHouse$Pool" (83 : Nat) "RegionHouse$Pool" "regionsMade" "I") ∈ lw_tbl := lw_at lw_m4 33 rfl
theorem qt999 : (Jvm.Cond.fieldLink "RegionHouse$Pool" (86 : Nat) "RegionHouse$Pool" "objectsMade" "I") ∈ lw_tbl := lw_at lw_m4 34 rfl
theorem qt1000 : (Jvm.Cond.fieldLink "RegionHouse$Pool" (89 : Nat) "RegionHouse$Pool" "collections" "I") ∈ lw_tbl := lw_at lw_m4 35 rfl
theorem qt1001 : (Jvm.Cond.fieldLink "RegionHouse$Pool" (92 : Nat) "RegionHouse$Pool" "copied" "I") ∈ lw_tbl := lw_at lw_m4 36 rfl
theorem qt1002 : (Jvm.Cond.fieldLink "RegionHouse$Pool" (108 : Nat) "RegionHouse$Pool" "isWorn" "Z") ∈ lw_tbl := lw_at lw_m4 37 rfl
theorem qt1003 : (Jvm.Cond.fieldLink "RegionHouse$Pool" (57 : Nat) "RegionHouse$Pool" "queue" "[I") ∈ lw_tbl := lw_at lw_m4 38 rfl
theorem qt1004 : (Jvm.Cond.fieldLink "RegionHouse$Pool" (135 : Nat) "RegionHouse$Pool" "queued" "I") ∈ lw_tbl := lw_at lw_m4 39 rfl
theorem qt1060 : (Jvm.Cond.classLink "RegionHouse" (110 : Nat) "RegionHouse$Machine") ∈ lw_tbl := lw_at lw_m4 95 rfl
theorem qt1061 : (Jvm.Cond.instantiable "RegionHouse$Machine" (18 : Nat)) ∈ lw_tbl := lw_at lw_m4 96 rfl
theorem qt1062 : (Jvm.Cond.methodLink "RegionHouse" (112 : Nat) ({ cls := "RegionHouse$Machine", name := "<init>", desc := "(LRegionHouse$Program;LRegionHouse$Regions;LRegionHouse$Code;LRegionHouse$Stack;LRegionHouse$Pool;)V" } : Jvm.MethodName)) ∈ lw_tbl := lw_at lw_m4 97 rfl
theorem qt1063 : (Jvm.Cond.instanceMethod ({ cls := "RegionHouse$Machine", name := "<init>", desc := "(LRegionHouse$Program;LRegionHouse$Regions;LRegionHouse$Code;LRegionHouse$Stack;LRegionHouse$Pool;)V" } : Jvm.MethodName)) ∈ lw_tbl := lw_at lw_m4 98 rfl
theorem qt1064 : (Jvm.Cond.code ({ cls := "RegionHouse$Machine", name := "<init>", desc := "(LRegionHouse$Program;LRegionHouse$Regions;LRegionHouse$Code;LRegionHouse$Stack;LRegionHouse$Pool;)V" } : Jvm.MethodName) prog_5_method_1_code (6 : Nat) (Option.none : Option Jvm.ClassFile.FieldType)) ∈ lw_tbl := lw_at lw_m4 99 rfl
theorem qt1065 : (Jvm.Cond.methodLink "RegionHouse$Machine" (3 : Nat) ({ cls := "java/lang/Object", name := "<init>", desc := "()V" } : Jvm.MethodName)) ∈ lw_tbl := lw_at lw_m4 100 rfl
theorem qt1066 : (Jvm.Cond.fieldLink "RegionHouse$Machine" (27 : Nat) "RegionHouse$Machine" "made" "LRegionHouse$Program;") ∈ lw_tbl := lw_at lw_m4 101 rfl
theorem qt1067 : (Jvm.Cond.fieldLink "RegionHouse$Machine" (31 : Nat) "RegionHouse$Machine" "regions" "LRegionHouse$Regions;") ∈ lw_tbl := lw_at lw_m4 102 rfl
theorem qt1068 : (Jvm.Cond.fieldLink "RegionHouse$Machine" (35 : Nat) "RegionHouse$Machine" "code" "LRegionHouse$Code;") ∈ lw_tbl := lw_at lw_m4 103 rfl
theorem qt1069 : (Jvm.Cond.fieldLink "RegionHouse$Machine" (39 : Nat) "RegionHouse$Machine" "stack" "LRegionHouse$Stack;") ∈ lw_tbl := lw_at lw_m4 104 rfl
theorem qt1070 : (Jvm.Cond.fieldLink "RegionHouse$Machine" (43 : Nat) "RegionHouse$Machine" "pool" "LRegionHouse$Pool;") ∈ lw_tbl := lw_at lw_m4 105 rfl
theorem qt1071 : (Jvm.Cond.fieldLink "RegionHouse$Machine" (47 : Nat) "RegionHouse$Machine" "state" "I") ∈ lw_tbl := lw_at lw_m4 106 rfl
theorem qt1072 : (Jvm.Cond.fieldLink "RegionHouse$Machine" (63 : Nat) "RegionHouse$Machine" "steps" "I") ∈ lw_tbl := lw_at lw_m4 107 rfl
theorem qt1073 : (Jvm.Cond.fieldLink "RegionHouse$Machine" (51 : Nat) "RegionHouse$Machine" "every" "I") ∈ lw_tbl := lw_at lw_m4 108 rfl
theorem qt1074 : (Jvm.Cond.fieldLink "RegionHouse$Machine" (93 : Nat) "RegionHouse$Machine" "at" "I") ∈ lw_tbl := lw_at lw_m4 109 rfl
theorem qt1075 : (Jvm.Cond.fieldLink "RegionHouse$Machine" (96 : Nat) "RegionHouse$Machine" "base" "I") ∈ lw_tbl := lw_at lw_m4 110 rfl
theorem qt1076 : (Jvm.Cond.fieldLink "RegionHouse$Machine" (84 : Nat) "RegionHouse$Machine" "function" "I") ∈ lw_tbl := lw_at lw_m4 111 rfl
theorem qt1077 : (Jvm.Cond.fieldLink "RegionHouse$Machine" (99 : Nat) "RegionHouse$Machine" "hands" "I") ∈ lw_tbl := lw_at lw_m4 112 rfl
theorem qt1078 : (Jvm.Cond.fieldLink "RegionHouse$Machine" (11 : Nat) "RegionHouse$Machine" "handles" "[I") ∈ lw_tbl := lw_at lw_m4 113 rfl
theorem qt1079 : (Jvm.Cond.fieldLink "RegionHouse$Machine" (15 : Nat) "RegionHouse$Machine" "backs" "[I") ∈ lw_tbl := lw_at lw_m4 114 rfl
theorem qt1080 : (Jvm.Cond.fieldLink "RegionHouse$Machine" (18 : Nat) "RegionHouse$Machine" "bases" "[I") ∈ lw_tbl := lw_at lw_m4 115 rfl
theorem qt1081 : (Jvm.Cond.fieldLink "RegionHouse$Machine" (21 : Nat) "RegionHouse$Machine" "functions" "[I") ∈ lw_tbl := lw_at lw_m4 116 rfl
theorem qt1082 : (Jvm.Cond.fieldLink "RegionHouse$Machine" (24 : Nat) "RegionHouse$Machine" "handsBefore" "[I") ∈ lw_tbl := lw_at lw_m4 117 rfl
theorem qt1083 : (Jvm.Cond.fieldLink "RegionHouse$Machine" (74 : Nat) "RegionHouse$Machine" "calls" "I") ∈ lw_tbl := lw_at lw_m4 118 rfl
theorem qt1121 : (Jvm.Cond.fieldLink "RegionHouse" (12 : Nat) "RegionHouse" "tape" "LRegionHouse$Signs;") ∈ lw_tbl := lw_at lw_m4 156 rfl
theorem qt1122 : (Jvm.Cond.fieldLink "RegionHouse" (18 : Nat) "RegionHouse" "out" "LRegionHouse$Signs;") ∈ lw_tbl := lw_at lw_m4 157 rfl
theorem qt1123 : (Jvm.Cond.fieldLink "RegionHouse" (24 : Nat) "RegionHouse" "fault" "LRegionHouse$Fault;") ∈ lw_tbl := lw_at lw_m4 158 rfl
theorem qt1124 : (Jvm.Cond.fieldLink "RegionHouse" (31 : Nat) "RegionHouse" "lexemes" "LRegionHouse$Lexemes;") ∈ lw_tbl := lw_at lw_m4 159 rfl
theorem qt1125 : (Jvm.Cond.fieldLink "RegionHouse" (38 : Nat) "RegionHouse" "program" "LRegionHouse$Program;") ∈ lw_tbl := lw_at lw_m4 160 rfl
theorem qt1126 : (Jvm.Cond.fieldLink "RegionHouse" (45 : Nat) "RegionHouse" "types" "LRegionHouse$Types;") ∈ lw_tbl := lw_at lw_m4 161 rfl
theorem qt1127 : (Jvm.Cond.fieldLink "RegionHouse" (54 : Nat) "RegionHouse" "reader" "LRegionHouse$Reader;") ∈ lw_tbl := lw_at lw_m4 162 rfl
theorem qt1128 : (Jvm.Cond.fieldLink "RegionHouse" (63 : Nat) "RegionHouse" "typing" "LRegionHouse$Typing;") ∈ lw_tbl := lw_at lw_m4 163 rfl
theorem qt1129 : (Jvm.Cond.fieldLink "RegionHouse" (72 : Nat) "RegionHouse" "regions" "LRegionHouse$Regions;") ∈ lw_tbl := lw_at lw_m4 164 rfl
theorem qt1130 : (Jvm.Cond.fieldLink "RegionHouse" (81 : Nat) "RegionHouse" "printer" "LRegionHouse$Printer;") ∈ lw_tbl := lw_at lw_m4 165 rfl
theorem qt1131 : (Jvm.Cond.fieldLink "RegionHouse" (90 : Nat) "RegionHouse" "code" "LRegionHouse$Code;") ∈ lw_tbl := lw_at lw_m4 166 rfl
theorem qt1132 : (Jvm.Cond.fieldLink "RegionHouse" (97 : Nat) "RegionHouse" "stack" "LRegionHouse$Stack;") ∈ lw_tbl := lw_at lw_m4 167 rfl
theorem qt1133 : (Jvm.Cond.fieldLink "RegionHouse" (106 : Nat) "RegionHouse" "pool" "LRegionHouse$Pool;") ∈ lw_tbl := lw_at lw_m4 168 rfl
theorem qt1134 : (Jvm.Cond.fieldLink "RegionHouse" (115 : Nat) "RegionHouse" "machine" "LRegionHouse$Machine;") ∈ lw_tbl := lw_at lw_m4 169 rfl
theorem qt1135 : (Jvm.Cond.fieldLink "RegionHouse" (167 : Nat) "RegionHouse" "isMade" "Z") ∈ lw_tbl := lw_at lw_m4 170 rfl
theorem qt1167 : (Jvm.Cond.methodLink "RegionHouseLaw" (49 : Nat) ({ cls := "RegionHouse", name := "type", desc := "(J)I" } : Jvm.MethodName)) ∈ lw_tbl := lw_at lw_m4 202 rfl
theorem qt1168 : (Jvm.Cond.instanceMethod ({ cls := "RegionHouse", name := "type", desc := "(J)I" } : Jvm.MethodName)) ∈ lw_tbl := lw_at lw_m4 203 rfl
theorem qt1169 : (Jvm.Cond.selects "RegionHouse" ({ cls := "RegionHouse", name := "type", desc := "(J)I" } : Jvm.MethodName) ({ cls := "RegionHouse", name := "type", desc := "(J)I" } : Jvm.MethodName)) ∈ lw_tbl := lw_at lw_m4 204 rfl
theorem qt1170 : (Jvm.Cond.code ({ cls := "RegionHouse", name := "type", desc := "(J)I" } : Jvm.MethodName) prog_1_method_5_code (5 : Nat) (Option.some Jvm.ClassFile.FieldType.int)) ∈ lw_tbl := lw_at lw_m4 205 rfl
theorem qt1171 : (Jvm.Cond.constantLong "RegionHouse" (128 : Nat) (255 : Int64)) ∈ lw_tbl := lw_at lw_m4 206 rfl
theorem qt1172 : (Jvm.Cond.methodLink "RegionHouse" (130 : Nat) ({ cls := "RegionHouse$Signs", name := "add", desc := "(I)V" } : Jvm.MethodName)) ∈ lw_tbl := lw_at lw_m4 207 rfl
theorem qt1173 : (Jvm.Cond.instanceMethod ({ cls := "RegionHouse$Signs", name := "add", desc := "(I)V" } : Jvm.MethodName)) ∈ lw_tbl := lw_at lw_m4 208 rfl
theorem qt1174 : (Jvm.Cond.selects "RegionHouse$Signs" ({ cls := "RegionHouse$Signs", name := "add", desc := "(I)V" } : Jvm.MethodName) ({ cls := "RegionHouse$Signs", name := "add", desc := "(I)V" } : Jvm.MethodName)) ∈ lw_tbl := lw_at lw_m4 209 rfl
theorem qt1175 : (Jvm.Cond.code ({ cls := "RegionHouse$Signs", name := "add", desc := "(I)V" } : Jvm.MethodName) prog_11_method_6_code (2 : Nat) (Option.none : Option Jvm.ClassFile.FieldType)) ∈ lw_tbl := lw_at lw_m4 210 rfl
theorem qt1176 : (Jvm.Cond.methodLink "RegionHouse$Signs" (17 : Nat) ({ cls := "RegionHouse$Signs", name := "isFull", desc := "()Z" } : Jvm.MethodName)) ∈ lw_tbl := lw_at lw_m4 211 rfl
theorem qt1177 : (Jvm.Cond.instanceMethod ({ cls := "RegionHouse$Signs", name := "isFull", desc := "()Z" } : Jvm.MethodName)) ∈ lw_tbl := lw_at lw_m4 212 rfl
theorem qt1178 : (Jvm.Cond.selects "RegionHouse$Signs" ({ cls := "RegionHouse$Signs", name := "isFull", desc := "()Z" } : Jvm.MethodName) ({ cls := "RegionHouse$Signs", name := "isFull", desc := "()Z" } : Jvm.MethodName)) ∈ lw_tbl := lw_at lw_m4 213 rfl
theorem qt1179 : (Jvm.Cond.code ({ cls := "RegionHouse$Signs", name := "isFull", desc := "()Z" } : Jvm.MethodName) prog_11_method_5_code (1 : Nat) (Option.some Jvm.ClassFile.FieldType.boolean)) ∈ lw_tbl := lw_at lw_m4 214 rfl
theorem qt1180 : (Jvm.Cond.methodLink "RegionHouse" (133 : Nat) ({ cls := "RegionHouse$Signs", name := "size", desc := "()I" } : Jvm.MethodName)) ∈ lw_tbl := lw_at lw_m4 215 rfl
theorem qt1181 : (Jvm.Cond.instanceMethod ({ cls := "RegionHouse$Signs", name := "size", desc := "()I" } : Jvm.MethodName)) ∈ lw_tbl := lw_at lw_m4 216 rfl
theorem qt1182 : (Jvm.Cond.selects "RegionHouse$Signs" ({ cls := "RegionHouse$Signs", name := "size", desc := "()I" } : Jvm.MethodName) ({ cls := "RegionHouse$Signs", name := "size", desc := "()I" } : Jvm.MethodName)) ∈ lw_tbl := lw_at lw_m4 217 rfl
theorem qt1183 : (Jvm.Cond.code ({ cls := "RegionHouse$Signs", name := "size", desc := "()I" } : Jvm.MethodName) prog_11_method_2_code (1 : Nat) (Option.some Jvm.ClassFile.FieldType.int)) ∈ lw_tbl := lw_at lw_m4 218 rfl
theorem qt1184 : (Jvm.Cond.methodLink "RegionHouseLaw" (63 : Nat) ({ cls := "RegionHouse", name := "fault", desc := "(I)I" } : Jvm.MethodName)) ∈ lw_tbl := lw_at lw_m4 219 rfl
theorem qt1185 : (Jvm.Cond.instanceMethod ({ cls := "RegionHouse", name := "fault", desc := "(I)I" } : Jvm.MethodName)) ∈ lw_tbl := lw_at lw_m4 220 rfl
theorem qt1186 : (Jvm.Cond.selects "RegionHouse" ({ cls := "RegionHouse", name := "fault", desc := "(I)I" } : Jvm.MethodName) ({ cls := "RegionHouse", name := "fault", desc := "(I)I" } : Jvm.MethodName)) ∈ lw_tbl := lw_at lw_m4 221 rfl
theorem qt1187 : (Jvm.Cond.code ({ cls := "RegionHouse", name := "fault", desc := "(I)I" } : Jvm.MethodName) prog_1_method_8_code (2 : Nat) (Option.some Jvm.ClassFile.FieldType.int)) ∈ lw_tbl := lw_at lw_m4 222 rfl
theorem qt1188 : (Jvm.Cond.methodLink "RegionHouse" (179 : Nat) ({ cls := "RegionHouse$Fault", name := "kind", desc := "()I" } : Jvm.MethodName)) ∈ lw_tbl := lw_at lw_m4 223 rfl
theorem qt1189 : (Jvm.Cond.instanceMethod ({ cls := "RegionHouse$Fault", name := "kind", desc := "()I" } : Jvm.MethodName)) ∈ lw_tbl := lw_at lw_m4 224 rfl
theorem qt1190 : (Jvm.Cond.selects "RegionHouse$Fault" ({ cls := "RegionHouse$Fault", name := "kind", desc := "()I" } : Jvm.MethodName) ({ cls := "RegionHouse$Fault", name := "kind", desc := "()I" } : Jvm.MethodName)) ∈ lw_tbl := lw_at lw_m4 225 rfl
theorem qt1191 : (Jvm.Cond.code ({ cls := "RegionHouse$Fault", name := "kind", desc := "()I" } : Jvm.MethodName) prog_3_method_2_code (1 : Nat) (Option.some Jvm.ClassFile.FieldType.int)) ∈ lw_tbl := lw_at lw_m4 226 rfl
theorem qt1192 : (Jvm.Cond.methodLink "RegionHouse" (182 : Nat) ({ cls := "RegionHouse$Fault", name := "place", desc := "()I" } : Jvm.MethodName)) ∈ lw_tbl := lw_at lw_m4 227 rfl
theorem qt1193 : (Jvm.Cond.instanceMethod ({ cls := "RegionHouse$Fault", name := "place", desc := "()I" } : Jvm.MethodName)) ∈ lw_tbl := lw_at lw_m4 228 rfl
theorem qt1194 : (Jvm.Cond.selects "RegionHouse$Fault" ({ cls := "RegionHouse$Fault", name := "place", desc := "()I" } : Jvm.MethodName) ({ cls := "RegionHouse$Fault", name := "place", desc := "()I" } : Jvm.MethodName)) ∈ lw_tbl := lw_at lw_m4 229 rfl
theorem qt1195 : (Jvm.Cond.code ({ cls := "RegionHouse$Fault", name := "place", desc := "()I" } : Jvm.MethodName) prog_3_method_3_code (1 : Nat) (Option.some Jvm.ClassFile.FieldType.int)) ∈ lw_tbl := lw_at lw_m4 230 rfl
theorem qt1196 : (Jvm.Cond.methodLink "RegionHouseLaw" (74 : Nat) ({ cls := "RegionHouse", name := "letter", desc := "(I)I" } : Jvm.MethodName)) ∈ lw_tbl := lw_at lw_m4 231 rfl
theorem qt1197 : (Jvm.Cond.instanceMethod ({ cls := "RegionHouse", name := "letter", desc := "(I)I" } : Jvm.MethodName)) ∈ lw_tbl := lw_at lw_m4 232 rfl
theorem qt1198 : (Jvm.Cond.selects "RegionHouse" ({ cls := "RegionHouse", name := "letter", desc := "(I)I" } : Jvm.MethodName) ({ cls := "RegionHouse", name := "letter", desc := "(I)I" } : Jvm.MethodName)) ∈ lw_tbl := lw_at lw_m4 233 rfl
theorem qt1199 : (Jvm.Cond.code ({ cls := "RegionHouse", name := "letter", desc := "(I)I" } : Jvm.MethodName) prog_1_method_12_code (2 : Nat) (Option.some Jvm.ClassFile.FieldType.int)) ∈ lw_tbl := lw_at lw_m4 234 rfl
theorem qt1200 : (Jvm.Cond.methodLink "RegionHouse" (200 : Nat) ({ cls := "RegionHouse$Signs", name := "at", desc := "(I)I" } : Jvm.MethodName)) ∈ lw_tbl := lw_at lw_m4 235 rfl
theorem qt1201 : (Jvm.Cond.instanceMethod ({ cls := "RegionHouse$Signs", name := "at", desc := "(I)I" } : Jvm.MethodName)) ∈ lw_tbl := lw_at lw_m4 236 rfl
theorem qt1202 : (Jvm.Cond.selects "RegionHouse$Signs" ({ cls := "RegionHouse$Signs", name := "at", desc := "(I)I" } : Jvm.MethodName) ({ cls := "RegionHouse$Signs", name := "at", desc := "(I)I" } : Jvm.MethodName)) ∈ lw_tbl := lw_at lw_m4 237 rfl
theorem qt1203 : (Jvm.Cond.code ({ cls := "RegionHouse$Signs", name := "at", desc := "(I)I" } : Jvm.MethodName) prog_11_method_3_code (2 : Nat) (Option.some Jvm.ClassFile.FieldType.int)) ∈ lw_tbl := lw_at lw_m4 238 rfl
theorem qt1204 : (Jvm.Cond.methodLink "RegionHouseLaw" (78 : Nat) ({ cls := "RegionHouse", name := "again", desc := "()I" } : Jvm.MethodName)) ∈ lw_tbl := lw_at lw_m4 239 rfl
theorem qt1205 : (Jvm.Cond.instanceMethod ({ cls := "RegionHouse", name := "again", desc := "()I" } : Jvm.MethodName)) ∈ lw_tbl := lw_at lw_m5 0 rfl
theorem qt1206 : (Jvm.Cond.selects "RegionHouse" ({ cls := "RegionHouse", name := "again", desc := "()I" } : Jvm.MethodName) ({ cls := "RegionHouse", name := "again", desc := "()I" } : Jvm.MethodName)) ∈ lw_tbl := lw_at lw_m5 1 rfl
theorem qt1207 : (Jvm.Cond.code ({ cls := "RegionHouse", name := "again", desc := "()I" } : Jvm.MethodName) prog_1_method_13_code (2 : Nat) (Option.some Jvm.ClassFile.FieldType.int)) ∈ lw_tbl := lw_at lw_m5 2 rfl
theorem qt1208 : (Jvm.Cond.methodLink "RegionHouse" (174 : Nat) ({ cls := "RegionHouse$Signs", name := "clear", desc := "()V" } : Jvm.MethodName)) ∈ lw_tbl := lw_at lw_m5 3 rfl
theorem qt1209 : (Jvm.Cond.instanceMethod ({ cls := "RegionHouse$Signs", name := "clear", desc := "()V" } : Jvm.MethodName)) ∈ lw_tbl := lw_at lw_m5 4 rfl
theorem qt1210 : (Jvm.Cond.selects "RegionHouse$Signs" ({ cls := "RegionHouse$Signs", name := "clear", desc := "()V" } : Jvm.MethodName) ({ cls := "RegionHouse$Signs", name := "clear", desc := "()V" } : Jvm.MethodName)) ∈ lw_tbl := lw_at lw_m5 5 rfl
theorem qt1211 : (Jvm.Cond.code ({ cls := "RegionHouse$Signs", name := "clear", desc := "()V" } : Jvm.MethodName) prog_11_method_4_code (1 : Nat) (Option.none : Option Jvm.ClassFile.FieldType)) ∈ lw_tbl := lw_at lw_m5 6 rfl
theorem qt1212 : (Jvm.Cond.methodLink "RegionHouseLaw" (90 : Nat) ({ cls := "RegionHouse", name := "pool", desc := "(II)Z" } : Jvm.MethodName)) ∈ lw_tbl := lw_at lw_m5 7 rfl
theorem qt1213 : (Jvm.Cond.instanceMethod ({ cls := "RegionHouse", name := "pool", desc := "(II)Z" } : Jvm.MethodName)) ∈ lw_tbl := lw_at lw_m5 8 rfl
theorem qt1214 : (Jvm.Cond.selects "RegionHouse" ({ cls := "RegionHouse", name := "pool", desc := "(II)Z" } : Jvm.MethodName) ({ cls := "RegionHouse", name := "pool", desc := "(II)Z" } : Jvm.MethodName)) ∈ lw_tbl := lw_at lw_m5 9 rfl
theorem qt1215 : (Jvm.Cond.code ({ cls := "RegionHouse", name := "pool", desc := "(II)Z" } : Jvm.MethodName) prog_1_method_16_code (3 : Nat) (Option.some Jvm.ClassFile.FieldType.boolean)) ∈ lw_tbl := lw_at lw_m5 10 rfl
theorem qt1216 : (Jvm.Cond.methodLink "RegionHouse" (163 : Nat) ({ cls := "RegionHouse$Machine", name := "stop", desc := "()V" } : Jvm.MethodName)) ∈ lw_tbl := lw_at lw_m5 11 rfl
theorem qt1217 : (Jvm.Cond.instanceMethod ({ cls := "RegionHouse$Machine", name := "stop", desc := "()V" } : Jvm.MethodName)) ∈ lw_tbl := lw_at lw_m5 12 rfl
theorem qt1218 : (Jvm.Cond.selects "RegionHouse$Machine" ({ cls := "RegionHouse$Machine", name := "stop", desc := "()V" } : Jvm.MethodName) ({ cls := "RegionHouse$Machine", name := "stop", desc := "()V" } : Jvm.MethodName)) ∈ lw_tbl := lw_at lw_m5 13 rfl
theorem qt1219 : (Jvm.Cond.code ({ cls := "RegionHouse$Machine", name := "stop", desc := "()V" } : Jvm.MethodName) prog_5_method_4_code (1 : Nat) (Option.none : Option Jvm.ClassFile.FieldType)) ∈ lw_tbl := lw_at lw_m5 14 rfl
theorem qt1220 : (Jvm.Cond.methodLink "RegionHouse$Machine" (54 : Nat) ({ cls := "RegionHouse$Machine", name := "end", desc := "(I)V" } : Jvm.MethodName)) ∈ lw_tbl := lw_at lw_m5 15 rfl
theorem qt1222 : (Jvm.Cond.instanceMethod ({ cls := "RegionHouse$Machine", name := "end", desc := "(I)V" } : Jvm.MethodName)) ∈ lw_tbl := lw_at lw_m5 17 rfl
theorem qt1223 : (Jvm.Cond.code ({ cls := "RegionHouse$Machine", name := "end", desc := "(I)V" } : Jvm.MethodName) prog_5_method_5_code (2 : Nat) (Option.none : Option Jvm.ClassFile.FieldType)) ∈ lw_tbl := lw_at lw_m5 18 rfl
theorem qt1224 : (Jvm.Cond.methodLink "RegionHouse$Machine" (66 : Nat) ({ cls := "RegionHouse$Stack", name := "clear", desc := "()V" } : Jvm.MethodName)) ∈ lw_tbl := lw_at lw_m5 19 rfl
theorem qt1225 : (Jvm.Cond.instanceMethod ({ cls := "RegionHouse$Stack", name := "clear", desc := "()V" } : Jvm.MethodName)) ∈ lw_tbl := lw_at lw_m5 20 rfl
theorem qt1226 : (Jvm.Cond.selects "RegionHouse$Stack" ({ cls := "RegionHouse$Stack", name := "clear", desc := "()V" } : Jvm.MethodName) ({ cls := "RegionHouse$Stack", name := "clear", desc := "()V" } : Jvm.MethodName)) ∈ lw_tbl := lw_at lw_m5 21 rfl
theorem qt1227 : (Jvm.Cond.code ({ cls := "RegionHouse$Stack", name := "clear", desc := "()V" } : Jvm.MethodName) prog_12_method_3_code (1 : Nat) (Option.none : Option Jvm.ClassFile.FieldType)) ∈ lw_tbl := lw_at lw_m5 22 rfl
theorem qt1228 : (Jvm.Cond.methodLink "RegionHouse$Machine" (71 : Nat) ({ cls := "RegionHouse$Pool", name := "release", desc := "()V" } : Jvm.MethodName)) ∈ lw_tbl := lw_at lw_m5 23 rfl
theorem qt1229 : (Jvm.Cond.methodLink "RegionHouse$Machine" (58 : Nat) ({ cls := "RegionHouse$Pool", name := "begin", desc := "()V" } : Jvm.MethodName)) ∈ lw_tbl := lw_at lw_m5 24 rfl
theorem qt1230 : (Jvm.Cond.instanceMethod ({ cls := "RegionHouse$Pool", name := "begin", desc := "()V" } : Jvm.MethodName)) ∈ lw_tbl := lw_at lw_m5 25 rfl
theorem qt1231 : (Jvm.Cond.selects "RegionHouse$Pool" ({ cls := "RegionHouse$Pool", name := "begin", desc := "()V" } : Jvm.MethodName) ({ cls := "RegionHouse$Pool", name := "begin", desc := "()V" } : Jvm.MethodName)) ∈ lw_tbl := lw_at lw_m5 26 rfl
theorem qt1232 : (Jvm.Cond.code ({ cls := "RegionHouse$Pool", name := "begin", desc := "()V" } : Jvm.MethodName) prog_6_method_4_code (1 : Nat) (Option.none : Option Jvm.ClassFile.FieldType)) ∈ lw_tbl := lw_at lw_m5 27 rfl
theorem qt1233 : (Jvm.Cond.methodLink "RegionHouse" (243 : Nat) ({ cls := "RegionHouse$Pool", name := "size", desc := "(II)V" } : Jvm.MethodName)) ∈ lw_tbl := lw_at lw_m5 28 rfl
theorem qt1234 : (Jvm.Cond.instanceMethod ({ cls := "RegionHouse$Pool", name := "size", desc := "(II)V" } : Jvm.MethodName)) ∈ lw_tbl := lw_at lw_m5 29 rfl
theorem qt1235 : (Jvm.Cond.selects "RegionHouse$Pool" ({ cls := "RegionHouse$Pool", name := "size", desc := "(II)V" } : Jvm.MethodName) ({ cls := "RegionHouse$Pool", name := "size", desc := "(II)V" } : Jvm.MethodName)) ∈ lw_tbl := lw_at lw_m5 30 rfl
theorem qt1236 : (Jvm.Cond.code ({ cls := "RegionHouse$Pool", name := "size", desc := "(II)V" } : Jvm.MethodName) prog_6_method_2_code (3 : Nat) (Option.none : Option Jvm.ClassFile.FieldType)) ∈ lw_tbl := lw_at lw_m5 31 rfl
theorem qt1237 : (Jvm.Cond.methodLink "RegionHouseLaw" (95 : Nat) ({ cls := "RegionHouse", name := "every", desc := "(I)Z" } : Jvm.MethodName)) ∈ lw_tbl := lw_at lw_m5 32 rfl
theorem qt1238 : (Jvm.Cond.instanceMethod ({ cls := "RegionHouse", name := "every", desc := "(I)Z" } : Jvm.MethodName)) ∈ lw_tbl := lw_at lw_m5 33 rfl
theorem qt1239 : (Jvm.Cond.selects "RegionHouse" ({ cls := "RegionHouse", name := "every", desc := "(I)Z" } : Jvm.MethodName) ({ cls := "RegionHouse", name := "every", desc := "(I)Z" } : Jvm.MethodName)) ∈ lw_tbl := lw_at lw_m5 34 rfl
theorem qt1240 : (Jvm.Cond.code ({ cls := "RegionHouse", name := "every", desc := "(I)Z" } : Jvm.MethodName) prog_1_method_17_code (2 : Nat) (Option.some Jvm.ClassFile.FieldType.boolean)) ∈ lw_tbl := lw_at lw_m5 35 rfl
theorem qt1241 : (Jvm.Cond.methodLink "RegionHouse" (245 : Nat) ({ cls := "RegionHouse$Machine", name := "every", desc := "(I)V" } : Jvm.MethodName)) ∈ lw_tbl := lw_at lw_m5 36 rfl
theorem qt1242 : (Jvm.Cond.instanceMethod ({ cls := "RegionHouse$Machine", name := "every", desc := "(I)V" } : Jvm.MethodName)) ∈ lw_tbl := lw_at lw_m5 37 rfl
theorem qt1243 : (Jvm.Cond.selects "RegionHouse$Machine" ({ cls := "RegionHouse$Machine", name := "every", desc := "(I)V" } : Jvm.MethodName) ({ cls := "RegionHouse$Machine", name := "every", desc := "(I)V" } : Jvm.MethodName)) ∈ lw_tbl := lw_at lw_m5 38 rfl
theorem qt1244 : (Jvm.Cond.code ({ cls := "RegionHouse$Machine", name := "every", desc := "(I)V" } : Jvm.MethodName) prog_5_method_3_code (2 : Nat) (Option.none : Option Jvm.ClassFile.FieldType)) ∈ lw_tbl := lw_at lw_m5 39 rfl
theorem qt1245 : (Jvm.Cond.methodLink "RegionHouseLaw" (107 : Nat) ({ cls := "RegionHouse", name := "state", desc := "()I" } : Jvm.MethodName)) ∈ lw_tbl := lw_at lw_m5 40 rfl
theorem qt1246 : (Jvm.Cond.instanceMethod ({ cls := "RegionHouse", name := "state", desc := "()I" } : Jvm.MethodName)) ∈ lw_tbl := lw_at lw_m5 41 rfl
theorem qt1247 : (Jvm.Cond.selects "RegionHouse" ({ cls := "RegionHouse", name := "state", desc := "()I" } : Jvm.MethodName) ({ cls := "RegionHouse", name := "state", desc := "()I" } : Jvm.MethodName)) ∈ lw_tbl := lw_at lw_m5 42 rfl
theorem qt1248 : (Jvm.Cond.code ({ cls := "RegionHouse", name := "state", desc := "()I" } : Jvm.MethodName) prog_1_method_20_code (1 : Nat) (Option.some Jvm.ClassFile.FieldType.int)) ∈ lw_tbl := lw_at lw_m5 43 rfl
theorem qt1249 : (Jvm.Cond.methodLink "RegionHouse" (251 : Nat) ({ cls := "RegionHouse$Machine", name := "state", desc := "()I" } : Jvm.MethodName)) ∈ lw_tbl := lw_at lw_m5 44 rfl
theorem qt1250 : (Jvm.Cond.instanceMethod ({ cls := "RegionHouse$Machine", name := "state", desc := "()I" } : Jvm.MethodName)) ∈ lw_tbl := lw_at lw_m5 45 rfl
theorem qt1251 : (Jvm.Cond.selects "RegionHouse$Machine" ({ cls := "RegionHouse$Machine", name := "state", desc := "()I" } : Jvm.MethodName) ({ cls := "RegionHouse$Machine", name := "state", desc := "()I" } : Jvm.MethodName)) ∈ lw_tbl := lw_at lw_m5 46 rfl
theorem qt1252 : (Jvm.Cond.code ({ cls := "RegionHouse$Machine", name := "state", desc := "()I" } : Jvm.MethodName) prog_5_method_2_code (1 : Nat) (Option.some Jvm.ClassFile.FieldType.int)) ∈ lw_tbl := lw_at lw_m5 47 rfl
theorem qt1253 : (Jvm.Cond.methodLink "RegionHouseLaw" (111 : Nat) ({ cls := "RegionHouse", name := "count", desc := "(I)I" } : Jvm.MethodName)) ∈ lw_tbl := lw_at lw_m5 48 rfl
theorem qt1254 : (Jvm.Cond.instanceMethod ({ cls := "RegionHouse", name := "count", desc := "(I)I" } : Jvm.MethodName)) ∈ lw_tbl := lw_at lw_m5 49 rfl
theorem qt1255 : (Jvm.Cond.selects "RegionHouse" ({ cls := "RegionHouse", name := "count", desc := "(I)I" } : Jvm.MethodName) ({ cls := "RegionHouse", name := "count", desc := "(I)I" } : Jvm.MethodName)) ∈ lw_tbl := lw_at lw_m5 50 rfl
theorem qt1256 : (Jvm.Cond.code ({ cls := "RegionHouse", name := "count", desc := "(I)I" } : Jvm.MethodName) prog_1_method_21_code (2 : Nat) (Option.some Jvm.ClassFile.FieldType.int)) ∈ lw_tbl := lw_at lw_m5 51 rfl
theorem qt1257 : (Jvm.Cond.methodLink "RegionHouse" (257 : Nat) ({ cls := "RegionHouse$Machine", name := "count", desc := "(I)I" } : Jvm.MethodName)) ∈ lw_tbl := lw_at lw_m5 52 rfl
theorem qt1258 : (Jvm.Cond.instanceMethod ({ cls := "RegionHouse$Machine", name := "count", desc := "(I)I" } : Jvm.MethodName)) ∈ lw_tbl := lw_at lw_m5 53 rfl
theorem qt1259 : (Jvm.Cond.selects "RegionHouse$Machine" ({ cls := "RegionHouse$Machine", name := "count", desc := "(I)I" } : Jvm.MethodName) ({ cls := "RegionHouse$Machine", name := "count", desc := "(I)I" } : Jvm.MethodName)) ∈ lw_tbl := lw_at lw_m5 54 rfl
theorem qt1260 : (Jvm.Cond.code ({ cls := "RegionHouse$Machine", name := "count", desc := "(I)I" } : Jvm.MethodName) prog_5_method_28_code (2 : Nat) (Option.some Jvm.ClassFile.FieldType.int)) ∈ lw_tbl := lw_at lw_m5 55 rfl
theorem qt1261 : (Jvm.Cond.methodLink "RegionHouse$Machine" (133 : Nat) ({ cls := "RegionHouse$Stack", name := "size", desc := "()I" } : Jvm.MethodName)) ∈ lw_tbl := lw_at lw_m5 56 rfl
theorem qt1262 : (Jvm.Cond.instanceMethod ({ cls := "RegionHouse$Stack", name := "size", desc := "()I" } : Jvm.MethodName)) ∈ lw_tbl := lw_at lw_m5 57 rfl
theorem qt1263 : (Jvm.Cond.selects "RegionHouse$Stack" ({ cls := "RegionHouse$Stack", name := "size", desc := "()I" } : Jvm.MethodName) ({ cls := "RegionHouse$Stack", name := "size", desc := "()I" } : Jvm.MethodName)) ∈ lw_tbl := lw_at lw_m5 58 rfl
theorem qt1264 : (Jvm.Cond.code ({ cls := "RegionHouse$Stack", name := "size", desc := "()I" } : Jvm.MethodName) prog_12_method_2_code (1 : Nat) (Option.some Jvm.ClassFile.FieldType.int)) ∈ lw_tbl := lw_at lw_m5 59 rfl
theorem qt1265 : (Jvm.Cond.methodLink "RegionHouse$Machine" (240 : Nat) ({ cls := "RegionHouse$Pool", name := "count", desc := "(I)I" } : Jvm.MethodName)) ∈ lw_tbl := lw_at lw_m5 60 rfl
theorem qt1266 : (Jvm.Cond.instanceMethod ({ cls := "RegionHouse$Pool", name := "count", desc := "(I)I" } : Jvm.MethodName)) ∈ lw_tbl := lw_at lw_m5 61 rfl
theorem qt1267 : (Jvm.Cond.selects "RegionHouse$Pool" ({ cls := "RegionHouse$Pool", name := "count", desc := "(I)I" } : Jvm.MethodName) ({ cls := "RegionHouse$Pool", name := "count", desc := "(I)I" } : Jvm.MethodName)) ∈ lw_tbl := lw_at lw_m5 62 rfl
theorem qt1268 : (Jvm.Cond.code ({ cls := "RegionHouse$Pool", name := "count", desc := "(I)I" } : Jvm.MethodName) prog_6_method_24_code (2 : Nat) (Option.some Jvm.ClassFile.FieldType.int)) ∈ lw_tbl := lw_at lw_m5 63 rfl
theorem qt1269 : (Jvm.Cond.methodLink "RegionHouseLaw" (115 : Nat) ({ cls := "RegionHouse", name := "there", desc := "(II)I" } : Jvm.MethodName)) ∈ lw_tbl := lw_at lw_m5 64 rfl
theorem qt1270 : (Jvm.Cond.instanceMethod ({ cls := "RegionHouse", name := "there", desc := "(II)I" } : Jvm.MethodName)) ∈ lw_tbl := lw_at lw_m5 65 rfl
theorem qt1271 : (Jvm.Cond.selects "RegionHouse" ({ cls := "RegionHouse", name := "there", desc := "(II)I" } : Jvm.MethodName) ({ cls := "RegionHouse", name := "there", desc := "(II)I" } : Jvm.MethodName)) ∈ lw_tbl := lw_at lw_m5 66 rfl
theorem qt1272 : (Jvm.Cond.code ({ cls := "RegionHouse", name := "there", desc := "(II)I" } : Jvm.MethodName) prog_1_method_22_code (3 : Nat) (Option.some Jvm.ClassFile.FieldType.int)) ∈ lw_tbl := lw_at lw_m5 67 rfl
theorem qt1273 : (Jvm.Cond.methodLink "RegionHouse" (258 : Nat) ({ cls := "RegionHouse$Pool", name := "there", desc := "(II)I" } : Jvm.MethodName)) ∈ lw_tbl := lw_at lw_m5 68 rfl
theorem qt1274 : (Jvm.Cond.instanceMethod ({ cls := "RegionHouse$Pool", name := "there", desc := "(II)I" } : Jvm.MethodName)) ∈ lw_tbl := lw_at lw_m5 69 rfl
theorem qt1275 : (Jvm.Cond.selects "RegionHouse$Pool" ({ cls := "RegionHouse$Pool", name := "there", desc := "(II)I" } : Jvm.MethodName) ({ cls := "RegionHouse$Pool", name := "there", desc := "(II)I" } : Jvm.MethodName)) ∈ lw_tbl := lw_at lw_m5 70 rfl
theorem qt1276 : (Jvm.Cond.code ({ cls := "RegionHouse$Pool", name := "there", desc := "(II)I" } : Jvm.MethodName) prog_6_method_25_code (3 : Nat) (Option.some Jvm.ClassFile.FieldType.int)) ∈ lw_tbl := lw_at lw_m5 71 rfl
theorem qt1277 : (Jvm.Cond.methodLink "RegionHouseLaw" (119 : Nat) ({ cls := "RegionHouse", name := "strays", desc := "()I" } : Jvm.MethodName)) ∈ lw_tbl := lw_at lw_m5 72 rfl
theorem qt1278 : (Jvm.Cond.instanceMethod ({ cls := "RegionHouse", name := "strays", desc := "()I" } : Jvm.MethodName)) ∈ lw_tbl := lw_at lw_m5 73 rfl
theorem qt1279 : (Jvm.Cond.selects "RegionHouse" ({ cls := "RegionHouse", name := "strays", desc := "()I" } : Jvm.MethodName) ({ cls := "RegionHouse", name := "strays", desc := "()I" } : Jvm.MethodName)) ∈ lw_tbl := lw_at lw_m5 74 rfl
theorem qt1280 : (Jvm.Cond.code ({ cls := "RegionHouse", name := "strays", desc := "()I" } : Jvm.MethodName) prog_1_method_23_code (1 : Nat) (Option.some Jvm.ClassFile.FieldType.int)) ∈ lw_tbl := lw_at lw_m5 75 rfl
theorem qt1281 : (Jvm.Cond.methodLink "RegionHouseLaw" (123 : Nat) ({ cls := "RegionHouse", name := "collect", desc := "()I" } : Jvm.MethodName)) ∈ lw_tbl := lw_at lw_m5 76 rfl
theorem qt1282 : (Jvm.Cond.instanceMethod ({ cls := "RegionHouse", name := "collect", desc := "()I" } : Jvm.MethodName)) ∈ lw_tbl := lw_at lw_m5 77 rfl
theorem qt1283 : (Jvm.Cond.selects "RegionHouse" ({ cls := "RegionHouse", name := "collect", desc := "()I" } : Jvm.MethodName) ({ cls := "RegionHouse", name := "collect", desc := "()I" } : Jvm.MethodName)) ∈ lw_tbl := lw_at lw_m5 78 rfl
theorem qt1284 : (Jvm.Cond.code ({ cls := "RegionHouse", name := "collect", desc := "()I" } : Jvm.MethodName) prog_1_method_24_code (1 : Nat) (Option.some Jvm.ClassFile.FieldType.int)) ∈ lw_tbl := lw_at lw_m5 79 rfl
theorem qt1285 : (Jvm.Cond.methodLink "RegionHouse" (260 : Nat) ({ cls := "RegionHouse$Machine", name := "collect", desc := "()I" } : Jvm.MethodName)) ∈ lw_tbl := lw_at lw_m5 80 rfl
theorem qt1286 : (Jvm.Cond.instanceMethod ({ cls := "RegionHouse$Machine", name := "collect", desc := "()I" } : Jvm.MethodName)) ∈ lw_tbl := lw_at lw_m5 81 rfl
theorem qt1287 : (Jvm.Cond.selects "RegionHouse$Machine" ({ cls := "RegionHouse$Machine", name := "collect", desc := "()I" } : Jvm.MethodName) ({ cls := "RegionHouse$Machine", name := "collect", desc := "()I" } : Jvm.MethodName)) ∈ lw_tbl := lw_at lw_m5 82 rfl
theorem qt1288 : (Jvm.Cond.code ({ cls := "RegionHouse$Machine", name := "collect", desc := "()I" } : Jvm.MethodName) prog_5_method_27_code (1 : Nat) (Option.some Jvm.ClassFile.FieldType.int)) ∈ lw_tbl := lw_at lw_m5 83 rfl
theorem qt1289 : (Jvm.Cond.methodLink "RegionHouse$Machine" (231 : Nat) ({ cls := "RegionHouse$Machine", name := "isThere", desc := "()Z" } : Jvm.MethodName)) ∈ lw_tbl := lw_at lw_m5 84 rfl
theorem qt1290 : (Jvm.Cond.instanceMethod ({ cls := "RegionHouse$Machine", name := "isThere", desc := "()Z" } : Jvm.MethodName)) ∈ lw_tbl := lw_at lw_m5 85 rfl
theorem qt1291 : (Jvm.Cond.selects "RegionHouse$Machine" ({ cls := "RegionHouse$Machine", name := "isThere", desc := "()Z" } : Jvm.MethodName) ({ cls := "RegionHouse$Machine", name := "isThere", desc := "()Z" } : Jvm.MethodName)) ∈ lw_tbl := lw_at lw_m5 86 rfl
theorem qt1292 : (Jvm.Cond.code ({ cls := "RegionHouse$Machine", name := "isThere", desc := "()Z" } : Jvm.MethodName) prog_5_method_26_code (1 : Nat) (Option.some Jvm.ClassFile.FieldType.boolean)) ∈ lw_tbl := lw_at lw_m5 87 rfl
theorem qt1293 : (Jvm.Cond.methodLink "RegionHouse$Machine" (234 : Nat) ({ cls := "RegionHouse$Pool", name := "collect", desc := "()Z" } : Jvm.MethodName)) ∈ lw_tbl := lw_at lw_m5 88 rfl
theorem qt1294 : (Jvm.Cond.instanceMethod ({ cls := "RegionHouse$Pool", name := "collect", desc := "()Z" } : Jvm.MethodName)) ∈ lw_tbl := lw_at lw_m5 89 rfl
theorem qt1295 : (Jvm.Cond.selects "RegionHouse$Pool" ({ cls := "RegionHouse$Pool", name := "collect", desc := "()Z" } : Jvm.MethodName) ({ cls := "RegionHouse$Pool", name := "collect", desc := "()Z" } : Jvm.MethodName)) ∈ lw_tbl := lw_at lw_m5 90 rfl
theorem qt1296 : (Jvm.Cond.code ({ cls := "RegionHouse$Pool", name := "collect", desc := "()Z" } : Jvm.MethodName) prog_6_method_20_code (3 : Nat) (Option.some Jvm.ClassFile.FieldType.boolean)) ∈ lw_tbl := lw_at lw_m5 91 rfl
theorem qt1297 : (Jvm.Cond.methodLink "RegionHouse$Pool" (95 : Nat) ({ cls := "RegionHouse$Pool", name := "clear", desc := "(I)V" } : Jvm.MethodName)) ∈ lw_tbl := lw_at lw_m5 92 rfl
theorem qt1299 : (Jvm.Cond.instanceMethod ({ cls := "RegionHouse$Pool", name := "clear", desc := "(I)V" } : Jvm.MethodName)) ∈ lw_tbl := lw_at lw_m5 94 rfl
theorem qt1300 : (Jvm.Cond.code ({ cls := "RegionHouse$Pool", name := "clear", desc := "(I)V" } : Jvm.MethodName) prog_6_method_7_code (2 : Nat) (Option.none : Option Jvm.ClassFile.FieldType)) ∈ lw_tbl := lw_at lw_m5 95 rfl
theorem qt1301 : (Jvm.Cond.methodLink "RegionHouse$Pool" (138 : Nat) ({ cls := "RegionHouse$Stack", name := "size", desc := "()I" } : Jvm.MethodName)) ∈ lw_tbl := lw_at lw_m5 96 rfl
theorem qt1302 : (Jvm.Cond.methodLink "RegionHouse$Pool" (144 : Nat) ({ cls := "RegionHouse$Stack", name := "sort", desc := "(I)I" } : Jvm.MethodName)) ∈ lw_tbl := lw_at lw_m5 97 rfl
theorem qt1303 : (Jvm.Cond.instanceMethod ({ cls := "RegionHouse$Stack", name := "sort", desc := "(I)I" } : Jvm.MethodName)) ∈ lw_tbl := lw_at lw_m5 98 rfl
theorem qt1304 : (Jvm.Cond.selects "RegionHouse$Stack" ({ cls := "RegionHouse$Stack", name := "sort", desc := "(I)I" } : Jvm.MethodName) ({ cls := "RegionHouse$Stack", name := "sort", desc := "(I)I" } : Jvm.MethodName)) ∈ lw_tbl := lw_at lw_m5 99 rfl
theorem qt1305 : (Jvm.Cond.code ({ cls := "RegionHouse$Stack", name := "sort", desc := "(I)I" } : Jvm.MethodName) prog_12_method_8_code (2 : Nat) (Option.some Jvm.ClassFile.FieldType.int)) ∈ lw_tbl := lw_at lw_m5 100 rfl
theorem qt1306 : (Jvm.Cond.methodLink "RegionHouse$Pool" (147 : Nat) ({ cls := "RegionHouse$Stack", name := "value", desc := "(I)I" } : Jvm.MethodName)) ∈ lw_tbl := lw_at lw_m5 101 rfl
theorem qt1307 : (Jvm.Cond.instanceMethod ({ cls := "RegionHouse$Stack", name := "value", desc := "(I)I" } : Jvm.MethodName)) ∈ lw_tbl := lw_at lw_m5 102 rfl
theorem qt1308 : (Jvm.Cond.selects "RegionHouse$Stack" ({ cls := "RegionHouse$Stack", name := "value", desc := "(I)I" } : Jvm.MethodName) ({ cls := "RegionHouse$Stack", name := "value", desc := "(I)I" } : Jvm.MethodName)) ∈ lw_tbl := lw_at lw_m5 103 rfl
theorem qt1309 : (Jvm.Cond.code ({ cls := "RegionHouse$Stack", name := "value", desc := "(I)I" } : Jvm.MethodName) prog_12_method_7_code (2 : Nat) (Option.some Jvm.ClassFile.FieldType.int)) ∈ lw_tbl := lw_at lw_m5 104 rfl
theorem qt1310 : (Jvm.Cond.methodLink "RegionHouse$Pool" (150 : Nat) ({ cls := "RegionHouse$Pool", name := "moved", desc := "(I)I" } : Jvm.MethodName)) ∈ lw_tbl := lw_at lw_m5 105 rfl
theorem qt1312 : (Jvm.Cond.instanceMethod ({ cls := "RegionHouse$Pool", name := "moved", desc := "(I)I" } : Jvm.MethodName)) ∈ lw_tbl := lw_at lw_m5 107 rfl
theorem qt1313 : (Jvm.Cond.code ({ cls := "RegionHouse$Pool", name := "moved", desc := "(I)I" } : Jvm.MethodName) prog_6_method_22_code (6 : Nat) (Option.some Jvm.ClassFile.FieldType.int)) ∈ lw_tbl := lw_at lw_m5 108 rfl
theorem qt1314 : (Jvm.Cond.methodLink "RegionHouse$Pool" (161 : Nat) ({ cls := "RegionHouse$Pool", name := "sizeOf", desc := "(I)I" } : Jvm.MethodName)) ∈ lw_tbl := lw_at lw_m5 109 rfl
theorem qt1316 : (Jvm.Cond.instanceMethod ({ cls := "RegionHouse$Pool", name := "sizeOf", desc := "(I)I" } : Jvm.MethodName)) ∈ lw_tbl := lw_at lw_m5 111 rfl
theorem qt1317 : (Jvm.Cond.code ({ cls := "RegionHouse$Pool", name := "sizeOf", desc := "(I)I" } : Jvm.MethodName) prog_6_method_17_code (2 : Nat) (Option.some Jvm.ClassFile.FieldType.int)) ∈ lw_tbl := lw_at lw_m5 112 rfl
theorem qt1318 : (Jvm.Cond.methodLink "RegionHouse$Pool" (126 : Nat) ({ cls := "RegionHouse$Code", name := "words", desc := "(I)I" } : Jvm.MethodName)) ∈ lw_tbl := lw_at lw_m5 113 rfl
theorem qt1319 : (Jvm.Cond.instanceMethod ({ cls := "RegionHouse$Code", name := "words", desc := "(I)I" } : Jvm.MethodName)) ∈ lw_tbl := lw_at lw_m5 114 rfl
theorem qt1320 : (Jvm.Cond.selects "RegionHouse$Code" ({ cls := "RegionHouse$Code", name := "words", desc := "(I)I" } : Jvm.MethodName) ({ cls := "RegionHouse$Code", name := "words", desc := "(I)I" } : Jvm.MethodName)) ∈ lw_tbl := lw_at lw_m5 115 rfl
theorem qt1321 : (Jvm.Cond.code ({ cls := "RegionHouse$Code", name := "words", desc := "(I)I" } : Jvm.MethodName) prog_2_method_6_code (2 : Nat) (Option.some Jvm.ClassFile.FieldType.int)) ∈ lw_tbl := lw_at lw_m5 116 rfl
theorem qt1322 : (Jvm.Cond.methodLink "RegionHouse$Code" (44 : Nat) ({ cls := "RegionHouse$Regions", name := "kept", desc := "(I)I" } : Jvm.MethodName)) ∈ lw_tbl := lw_at lw_m5 117 rfl
theorem qt1323 : (Jvm.Cond.instanceMethod ({ cls := "RegionHouse$Regions", name := "kept", desc := "(I)I" } : Jvm.MethodName)) ∈ lw_tbl := lw_at lw_m5 118 rfl
theorem qt1324 : (Jvm.Cond.selects "RegionHouse$Regions" ({ cls := "RegionHouse$Regions", name := "kept", desc := "(I)I" } : Jvm.MethodName) ({ cls := "RegionHouse$Regions", name := "kept", desc := "(I)I" } : Jvm.MethodName)) ∈ lw_tbl := lw_at lw_m5 119 rfl
theorem qt1325 : (Jvm.Cond.code ({ cls := "RegionHouse$Regions", name := "kept", desc := "(I)I" } : Jvm.MethodName) prog_10_method_7_code (2 : Nat) (Option.some Jvm.ClassFile.FieldType.int)) ∈ lw_tbl := lw_at lw_m5 120 rfl
theorem qt1326 : (Jvm.Cond.methodLink "RegionHouse$Pool" (116 : Nat) ({ cls := "RegionHouse$Pool", name := "fits", desc := "(II)Z" } : Jvm.MethodName)) ∈ lw_tbl := lw_at lw_m5 121 rfl
theorem qt1328 : (Jvm.Cond.instanceMethod ({ cls := "RegionHouse$Pool", name := "fits", desc := "(II)Z" } : Jvm.MethodName)) ∈ lw_tbl := lw_at lw_m5 123 rfl
theorem qt1329 : (Jvm.Cond.code ({ cls := "RegionHouse$Pool", name := "fits", desc := "(II)Z" } : Jvm.MethodName) prog_6_method_11_code (3 : Nat) (Option.some Jvm.ClassFile.FieldType.boolean)) ∈ lw_tbl := lw_at lw_m5 124 rfl
theorem qt1330 : (Jvm.Cond.methodLink "RegionHouse$Pool" (120 : Nat) ({ cls := "RegionHouse$Pool", name := "take", desc := "(I)V" } : Jvm.MethodName)) ∈ lw_tbl := lw_at lw_m5 125 rfl
theorem qt1332 : (Jvm.Cond.instanceMethod ({ cls := "RegionHouse$Pool", name := "take", desc := "(I)V" } : Jvm.MethodName)) ∈ lw_tbl := lw_at lw_m5 127 rfl
theorem qt1333 : (Jvm.Cond.code ({ cls := "RegionHouse$Pool", name := "take", desc := "(I)V" } : Jvm.MethodName) prog_6_method_10_code (3 : Nat) (Option.none : Option Jvm.ClassFile.FieldType)) ∈ lw_tbl := lw_at lw_m5 128 rfl
theorem qt1334 : (Jvm.Cond.methodLink "RegionHouse$Pool" (102 : Nat) ({ cls := "java/lang/Math", name := "max", desc := "(II)I" } : Jvm.MethodName)) ∈ lw_tbl := lw_at lw_m5 129 rfl
theorem qt1335 : (Jvm.Cond.static ({ cls := "java/lang/Math", name := "max", desc := "(II)I" } : Jvm.MethodName)) ∈ lw_tbl := lw_at lw_m5 130 rfl
theorem qt1336 : (Jvm.Cond.code ({ cls := "java/lang/Math", name := "max", desc := "(II)I" } : Jvm.MethodName) prog_23_method_65_code (2 : Nat) (Option.some Jvm.ClassFile.FieldType.int)) ∈ lw_tbl := lw_at lw_m5 131 rfl
theorem qt1337 : (Jvm.Cond.methodLink "RegionHouse$Pool" (123 : Nat) ({ cls := "RegionHouse$Pool", name := "place", desc := "(II)I" } : Jvm.MethodName)) ∈ lw_tbl := lw_at lw_m5 132 rfl
theorem qt1339 : (Jvm.Cond.instanceMethod ({ cls := "RegionHouse$Pool", name := "place", desc := "(II)I" } : Jvm.MethodName)) ∈ lw_tbl := lw_at lw_m5 134 rfl
theorem qt1340 : (Jvm.Cond.code ({ cls := "RegionHouse$Pool", name := "place", desc := "(II)I" } : Jvm.MethodName) prog_6_method_12_code (4 : Nat) (Option.some Jvm.ClassFile.FieldType.int)) ∈ lw_tbl := lw_at lw_m5 135 rfl
theorem qt1341 : (Jvm.Cond.methodLink "RegionHouse$Pool" (164 : Nat) ({ cls := "RegionHouse$Pool", name := "set", desc := "(III)V" } : Jvm.MethodName)) ∈ lw_tbl := lw_at lw_m5 136 rfl
theorem qt1342 : (Jvm.Cond.instanceMethod ({ cls := "RegionHouse$Pool", name := "set", desc := "(III)V" } : Jvm.MethodName)) ∈ lw_tbl := lw_at lw_m5 137 rfl
theorem qt1343 : (Jvm.Cond.selects "RegionHouse$Pool" ({ cls := "RegionHouse$Pool", name := "set", desc := "(III)V" } : Jvm.MethodName) ({ cls := "RegionHouse$Pool", name := "set", desc := "(III)V" } : Jvm.MethodName)) ∈ lw_tbl := lw_at lw_m5 138 rfl
theorem qt1344 : (Jvm.Cond.code ({ cls := "RegionHouse$Pool", name := "set", desc := "(III)V" } : Jvm.MethodName) prog_6_method_14_code (4 : Nat) (Option.none : Option Jvm.ClassFile.FieldType)) ∈ lw_tbl := lw_at lw_m5 139 rfl
theorem qt1345 : (Jvm.Cond.methodLink "RegionHouse$Pool" (153 : Nat) ({ cls := "RegionHouse$Stack", name := "set", desc := "(III)V" } : Jvm.MethodName)) ∈ lw_tbl := lw_at lw_m5 140 rfl
theorem qt1346 : (Jvm.Cond.instanceMethod ({ cls := "RegionHouse$Stack", name := "set", desc := "(III)V" } : Jvm.MethodName)) ∈ lw_tbl := lw_at lw_m5 141 rfl
theorem qt1347 : (Jvm.Cond.selects "RegionHouse$Stack" ({ cls := "RegionHouse$Stack", name := "set", desc := "(III)V" } : Jvm.MethodName) ({ cls := "RegionHouse$Stack", name := "set", desc := "(III)V" } : Jvm.MethodName)) ∈ lw_tbl := lw_at lw_m5 142 rfl
theorem qt1348 : (Jvm.Cond.code ({ cls := "RegionHouse$Stack", name := "set", desc := "(III)V" } : Jvm.MethodName) prog_12_method_6_code (4 : Nat) (Option.none : Option Jvm.ClassFile.FieldType)) ∈ lw_tbl := lw_at lw_m5 143 rfl
theorem qt1349 : (Jvm.Cond.methodLink "RegionHouse$Pool" (157 : Nat) ({ cls := "RegionHouse$Pool", name := "scan", desc := "(I)Z" } : Jvm.MethodName)) ∈ lw_tbl := lw_at lw_m5 144 rfl
theorem qt1351 : (Jvm.Cond.instanceMethod ({ cls := "RegionHouse$Pool", name := "scan", desc := "(I)Z" } : Jvm.MethodName)) ∈ lw_tbl := lw_at lw_m5 146 rfl
theorem qt1352 : (Jvm.Cond.code ({ cls := "RegionHouse$Pool", name := "scan", desc := "(I)Z" } : Jvm.MethodName) prog_6_method_21_code (5 : Nat) (Option.some Jvm.ClassFile.FieldType.boolean)) ∈ lw_tbl := lw_at lw_m5 147 rfl
theorem qt1353 : (Jvm.Cond.methodLink "RegionHouse$Pool" (99 : Nat) ({ cls := "RegionHouse$Pool", name := "giveBack", desc := "(I)V" } : Jvm.MethodName)) ∈ lw_tbl := lw_at lw_m5 148 rfl
theorem qt1355 : (Jvm.Cond.instanceMethod ({ cls := "RegionHouse$Pool", name := "giveBack", desc := "(I)V" } : Jvm.MethodName)) ∈ lw_tbl := lw_at lw_m5 150 rfl
theorem qt1356 : (Jvm.Cond.code ({ cls := "RegionHouse$Pool", name := "giveBack", desc := "(I)V" } : Jvm.MethodName) prog_6_method_9_code (4 : Nat) (Option.none : Option Jvm.ClassFile.FieldType)) ∈ lw_tbl := lw_at lw_m5 151 rfl
theorem qt1357 : (Jvm.Cond.methodLink "RegionHouse$Machine" (237 : Nat) ({ cls := "RegionHouse$Pool", name := "queued", desc := "()I" } : Jvm.MethodName)) ∈ lw_tbl := lw_at lw_m5 152 rfl
theorem qt1358 : (Jvm.Cond.instanceMethod ({ cls := "RegionHouse$Pool", name := "queued", desc := "()I" } : Jvm.MethodName)) ∈ lw_tbl := lw_at lw_m5 153 rfl
theorem qt1359 : (Jvm.Cond.selects "RegionHouse$Pool" ({ cls := "RegionHouse$Pool", name := "queued", desc := "()I" } : Jvm.MethodName) ({ cls := "RegionHouse$Pool", name := "queued", desc := "()I" } : Jvm.MethodName)) ∈ lw_tbl := lw_at lw_m5 154 rfl
theorem qt1360 : (Jvm.Cond.code ({ cls := "RegionHouse$Pool", name := "queued", desc := "()I" } : Jvm.MethodName) prog_6_method_23_code (1 : Nat) (Option.some Jvm.ClassFile.FieldType.int)) ∈ lw_tbl := lw_at lw_m5 155 rfl
theorem qt1361 : (Jvm.Cond.methodLink "RegionHouseLaw" (54 : Nat) ({ cls := "RegionHouseLaw", name := "compile", desc := "(LRegionHouse;[J)I" } : Jvm.MethodName)) ∈ lw_tbl := lw_at lw_m5 156 rfl
theorem qt1362 : (Jvm.Cond.static ({ cls := "RegionHouseLaw", name := "compile", desc := "(LRegionHouse;[J)I" } : Jvm.MethodName)) ∈ lw_tbl := lw_at lw_m5 157 rfl
theorem qt1363 : (Jvm.Cond.codeWith ({ cls := "RegionHouseLaw", name := "compile", desc := "(LRegionHouse;[J)I" } : Jvm.MethodName) method_3_code (3 : Nat) (Option.some Jvm.ClassFile.FieldType.int) [((0 : Nat), (8 : Nat), (11 : Nat), (13 : Nat))]) ∈ lw_tbl := lw_at lw_m5 158 rfl
theorem qt1365 : (Jvm.Cond.methodLink "RegionHouseLaw" (7 : Nat) ({ cls := "RegionHouse", name := "compile", desc := "()I" } : Jvm.MethodName)) ∈ lw_tbl := lw_at lw_m5 160 rfl
theorem qt1366 : (Jvm.Cond.instanceMethod ({ cls := "RegionHouse", name := "compile", desc := "()I" } : Jvm.MethodName)) ∈ lw_tbl := lw_at lw_m5 161 rfl
theorem qt1367 : (Jvm.Cond.selects "RegionHouse" ({ cls := "RegionHouse", name := "compile", desc := "()I" } : Jvm.MethodName) ({ cls := "RegionHouse", name := "compile", desc := "()I" } : Jvm.MethodName)) ∈ lw_tbl := lw_at lw_m5 162 rfl
theorem qt1368 : (Jvm.Cond.codeWith ({ cls := "RegionHouse", name := "compile", desc := "()I" } : Jvm.MethodName) prog_1_method_7_code (2 : Nat) (Option.some Jvm.ClassFile.FieldType.int) [((19 : Nat), (28 : Nat), (31 : Nat), (172 : Nat))]) ∈ lw_tbl := lw_at lw_m5 163 rfl
theorem qt1370 : (Jvm.Cond.methodLink "RegionHouse" (166 : Nat) ({ cls := "RegionHouse$Fault", name := "clear", desc := "()V" } : Jvm.MethodName)) ∈ lw_tbl := lw_at lw_m5 165 rfl
theorem qt1371 : (Jvm.Cond.instanceMethod ({ cls := "RegionHouse$Fault", name := "clear", desc := "()V" } : Jvm.MethodName)) ∈ lw_tbl := lw_at lw_m5 166 rfl
theorem qt1372 : (Jvm.Cond.selects "RegionHouse$Fault" ({ cls := "RegionHouse$Fault", name := "clear", desc := "()V" } : Jvm.MethodName) ({ cls := "RegionHouse$Fault", name := "clear", desc := "()V" } : Jvm.MethodName)) ∈ lw_tbl := lw_at lw_m5 167 rfl
theorem qt1373 : (Jvm.Cond.code ({ cls := "RegionHouse$Fault", name := "clear", desc := "()V" } : Jvm.MethodName) prog_3_method_4_code (1 : Nat) (Option.none : Option Jvm.ClassFile.FieldType)) ∈ lw_tbl := lw_at lw_m5 168 rfl
theorem qt1374 : (Jvm.Cond.methodLink "RegionHouse" (171 : Nat) ({ cls := "RegionHouse", name := "read", desc := "()V" } : Jvm.MethodName)) ∈ lw_tbl := lw_at lw_m5 169 rfl
theorem qt1376 : (Jvm.Cond.instanceMethod ({ cls := "RegionHouse", name := "read", desc := "()V" } : Jvm.MethodName)) ∈ lw_tbl := lw_at lw_m5 171 rfl
theorem qt1377 : (Jvm.Cond.code ({ cls := "RegionHouse", name := "read", desc := "()V" } : Jvm.MethodName) prog_1_method_6_code (3 : Nat) (Option.none : Option Jvm.ClassFile.FieldType)) ∈ lw_tbl := lw_at lw_m5 172 rfl
theorem qt1378 : (Jvm.Cond.methodLink "RegionHouse" (137 : Nat) ({ cls := "RegionHouse$Lexemes", name := "cut", desc := "(LRegionHouse$Signs;)I" } : Jvm.MethodName)) ∈ lw_tbl := lw_at lw_m5 173 rfl
theorem qt1379 : (Jvm.Cond.instanceMethod ({ cls := "RegionHouse$Lexemes", name := "cut", desc := "(LRegionHouse$Signs;)I" } : Jvm.MethodName)) ∈ lw_tbl := lw_at lw_m5 174 rfl
theorem qt1380 : (Jvm.Cond.selects "RegionHouse$Lexemes" ({ cls := "RegionHouse$Lexemes", name := "cut", desc := "(LRegionHouse$Signs;)I" } : Jvm.MethodName) ({ cls := "RegionHouse$Lexemes", name := "cut", desc := "(LRegionHouse$Signs;)I" } : Jvm.MethodName)) ∈ lw_tbl := lw_at lw_m5 175 rfl
theorem qt1381 : (Jvm.Cond.code ({ cls := "RegionHouse$Lexemes", name := "cut", desc := "(LRegionHouse$Signs;)I" } : Jvm.MethodName) prog_4_method_17_code (4 : Nat) (Option.some Jvm.ClassFile.FieldType.int)) ∈ lw_tbl := lw_at lw_m5 176 rfl
theorem qt1382 : (Jvm.Cond.methodLink "RegionHouse$Lexemes" (105 : Nat) ({ cls := "RegionHouse$Signs", name := "size", desc := "()I" } : Jvm.MethodName)) ∈ lw_tbl := lw_at lw_m5 177 rfl
theorem qt1383 : (Jvm.Cond.methodLink "RegionHouse$Lexemes" (110 : Nat) ({ cls := "RegionHouse$Signs", name := "at", desc := "(I)I" } : Jvm.MethodName)) ∈ lw_tbl := lw_at lw_m5 178 rfl
theorem qt1384 : (Jvm.Cond.methodLink "RegionHouse$Lexemes" (113 : Nat) ({ cls := "RegionHouse$Lexemes", name := "readOne", desc := "(I)I" } : Jvm.MethodName)) ∈ lw_tbl := lw_at lw_m5 179 rfl
theorem qt1386 : (Jvm.Cond.instanceMethod ({ cls := "RegionHouse$Lexemes", name := "readOne", desc := "(I)I" } : Jvm.MethodName)) ∈ lw_tbl := lw_at lw_m5 181 rfl
theorem qt1387 : (Jvm.Cond.code ({ cls := "RegionHouse$Lexemes", name := "readOne", desc := "(I)I" } : Jvm.MethodName) prog_4_method_16_code (3 : Nat) (Option.some Jvm.ClassFile.FieldType.int)) ∈ lw_tbl := lw_at lw_m5 182 rfl
theorem qt1388 : (Jvm.Cond.methodLink "RegionHouse$Lexemes" (81 : Nat) ({ cls := "RegionHouse$Lexemes", name := "here", desc := "(I)I" } : Jvm.MethodName)) ∈ lw_tbl := lw_at lw_m5 183 rfl
theorem qt1390 : (Jvm.Cond.instanceMethod ({ cls := "RegionHouse$Lexemes", name := "here", desc := "(I)I" } : Jvm.MethodName)) ∈ lw_tbl := lw_at lw_m5 185 rfl
theorem qt1391 : (Jvm.Cond.code ({ cls := "RegionHouse$Lexemes", name := "here", desc := "(I)I" } : Jvm.MethodName) prog_4_method_9_code (2 : Nat) (Option.some Jvm.ClassFile.FieldType.int)) ∈ lw_tbl := lw_at lw_m5 186 rfl
theorem qt1392 : (Jvm.Cond.methodLink "RegionHouse$Lexemes" (85 : Nat) ({ cls := "RegionHouse$Lexemes", name := "isLetter", desc := "(I)Z" } : Jvm.MethodName)) ∈ lw_tbl := lw_at lw_m5 187 rfl
theorem qt1393 : (Jvm.Cond.static ({ cls := "RegionHouse$Lexemes", name := "isLetter", desc := "(I)Z" } : Jvm.MethodName)) ∈ lw_tbl := lw_at lw_m5 188 rfl
theorem qt1394 : (Jvm.Cond.code ({ cls := "RegionHouse$Lexemes", name := "isLetter", desc := "(I)Z" } : Jvm.MethodName) prog_4_method_10_code (1 : Nat) (Option.some Jvm.ClassFile.FieldType.boolean)) ∈ lw_tbl := lw_at lw_m5 189 rfl
theorem qt1395 : (Jvm.Cond.methodLink "RegionHouse$Lexemes" (96 : Nat) ({ cls := "RegionHouse$Lexemes", name := "readName", desc := "(I)I" } : Jvm.MethodName)) ∈ lw_tbl := lw_at lw_m5 190 rfl
theorem qt1397 : (Jvm.Cond.instanceMethod ({ cls := "RegionHouse$Lexemes", name := "readName", desc := "(I)I" } : Jvm.MethodName)) ∈ lw_tbl := lw_at lw_m5 192 rfl
theorem qt1398 : (Jvm.Cond.code ({ cls := "RegionHouse$Lexemes", name := "readName", desc := "(I)I" } : Jvm.MethodName) prog_4_method_13_code (6 : Nat) (Option.some Jvm.ClassFile.FieldType.int)) ∈ lw_tbl := lw_at lw_m5 193 rfl
theorem qt1399 : (Jvm.Cond.methodLink "RegionHouse$Lexemes" (89 : Nat) ({ cls := "RegionHouse$Lexemes", name := "isDigit", desc := "(I)Z" } : Jvm.MethodName)) ∈ lw_tbl := lw_at lw_m5 194 rfl
theorem qt1400 : (Jvm.Cond.static ({ cls := "RegionHouse$Lexemes", name := "isDigit", desc := "(I)Z" } : Jvm.MethodName)) ∈ lw_tbl := lw_at lw_m5 195 rfl
theorem qt1401 : (Jvm.Cond.code ({ cls := "RegionHouse$Lexemes", name := "isDigit", desc := "(I)Z" } : Jvm.MethodName) prog_4_method_11_code (1 : Nat) (Option.some Jvm.ClassFile.FieldType.boolean)) ∈ lw_tbl := lw_at lw_m5 196 rfl
theorem qt1402 : (Jvm.Cond.methodLink "RegionHouse$Lexemes" (92 : Nat) ({ cls := "RegionHouse$Lexemes", name := "add", desc := "(III)V" } : Jvm.MethodName)) ∈ lw_tbl := lw_at lw_m5 197 rfl
theorem qt1404 : (Jvm.Cond.instanceMethod ({ cls := "RegionHouse$Lexemes", name := "add", desc := "(III)V" } : Jvm.MethodName)) ∈ lw_tbl := lw_at lw_m5 199 rfl
theorem qt1405 : (Jvm.Cond.code ({ cls := "RegionHouse$Lexemes", name := "add", desc := "(III)V" } : Jvm.MethodName) prog_4_method_12_code (4 : Nat) (Option.none : Option Jvm.ClassFile.FieldType)) ∈ lw_tbl := lw_at lw_m5 200 rfl
theorem qt1406 : (Jvm.Cond.methodLink "RegionHouse$Lexemes" (99 : Nat) ({ cls := "RegionHouse$Lexemes", name := "readNumber", desc := "(I)I" } : Jvm.MethodName)) ∈ lw_tbl := lw_at lw_m5 201 rfl
theorem qt1408 : (Jvm.Cond.instanceMethod ({ cls := "RegionHouse$Lexemes", name := "readNumber", desc := "(I)I" } : Jvm.MethodName)) ∈ lw_tbl := lw_at lw_m5 203 rfl
theorem qt1409 : (Jvm.Cond.code ({ cls := "RegionHouse$Lexemes", name := "readNumber", desc := "(I)I" } : Jvm.MethodName) prog_4_method_14_code (4 : Nat) (Option.some Jvm.ClassFile.FieldType.int)) ∈ lw_tbl := lw_at lw_m5 204 rfl
theorem qt1410 : (Jvm.Cond.methodLink "RegionHouse$Lexemes" (102 : Nat) ({ cls := "RegionHouse$Lexemes", name := "readSign", desc := "(I)I" } : Jvm.MethodName)) ∈ lw_tbl := lw_at lw_m5 205 rfl
theorem qt1412 : (Jvm.Cond.instanceMethod ({ cls := "RegionHouse$Lexemes", name := "readSign", desc := "(I)I" } : Jvm.MethodName)) ∈ lw_tbl := lw_at lw_m5 207 rfl
theorem qt1413 : (Jvm.Cond.code ({ cls := "RegionHouse$Lexemes", name := "readSign", desc := "(I)I" } : Jvm.MethodName) prog_4_method_15_code (7 : Nat) (Option.some Jvm.ClassFile.FieldType.int)) ∈ lw_tbl := lw_at lw_m5 208 rfl
theorem qt1414 : (Jvm.Cond.methodLink "RegionHouse" (141 : Nat) ({ cls := "RegionHouse$Fault", name := "fail", desc := "(II)V" } : Jvm.MethodName)) ∈ lw_tbl := lw_at lw_m5 209 rfl
theorem qt1415 : (Jvm.Cond.instanceMethod ({ cls := "RegionHouse$Fault", name := "fail", desc := "(II)V" } : Jvm.MethodName)) ∈ lw_tbl := lw_at lw_m5 210 rfl
theorem qt1416 : (Jvm.Cond.selects "RegionHouse$Fault" ({ cls := "RegionHouse$Fault", name := "fail", desc := "(II)V" } : Jvm.MethodName) ({ cls := "RegionHouse$Fault", name := "fail", desc := "(II)V" } : Jvm.MethodName)) ∈ lw_tbl := lw_at lw_m5 211 rfl
theorem qt1417 : (Jvm.Cond.code ({ cls := "RegionHouse$Fault", name := "fail", desc := "(II)V" } : Jvm.MethodName) prog_3_method_5_code (3 : Nat) (Option.none : Option Jvm.ClassFile.FieldType)) ∈ lw_tbl := lw_at lw_m5 212 rfl
theorem qt1484 : (Jvm.Cond.methodLink "RegionHouse" (145 : Nat) ({ cls := "RegionHouse$Reader", name := "read", desc := "()V" } : Jvm.MethodName)) ∈ lw_tbl := lw_at lw_m6 39 rfl
theorem qt1485 : (Jvm.Cond.instanceMethod ({ cls := "RegionHouse$Reader", name := "read", desc := "()V" } : Jvm.MethodName)) ∈ lw_tbl := lw_at lw_m6 40 rfl
theorem qt1486 : (Jvm.Cond.selects "RegionHouse$Reader" ({ cls := "RegionHouse$Reader", name := "read", desc := "()V" } : Jvm.MethodName) ({ cls := "RegionHouse$Reader", name := "read", desc := "()V" } : Jvm.MethodName)) ∈ lw_tbl := lw_at lw_m6 41 rfl
theorem qt1487 : (Jvm.Cond.code ({ cls := "RegionHouse$Reader", name := "read", desc := "()V" } : Jvm.MethodName) prog_9_method_12_code (1 : Nat) (Option.none : Option Jvm.ClassFile.FieldType)) ∈ lw_tbl := lw_at lw_m6 42 rfl
theorem qt1488 : (Jvm.Cond.methodLink "RegionHouse$Reader" (104 : Nat) ({ cls := "RegionHouse$Program", name := "clear", desc := "()V" } : Jvm.MethodName)) ∈ lw_tbl := lw_at lw_m6 43 rfl
theorem qt1489 : (Jvm.Cond.instanceMethod ({ cls := "RegionHouse$Program", name := "clear", desc := "()V" } : Jvm.MethodName)) ∈ lw_tbl := lw_at lw_m6 44 rfl
theorem qt1490 : (Jvm.Cond.selects "RegionHouse$Program" ({ cls := "RegionHouse$Program", name := "clear", desc := "()V" } : Jvm.MethodName) ({ cls := "RegionHouse$Program", name := "clear", desc := "()V" } : Jvm.MethodName)) ∈ lw_tbl := lw_at lw_m6 45 rfl
theorem qt1491 : (Jvm.Cond.code ({ cls := "RegionHouse$Program", name := "clear", desc := "()V" } : Jvm.MethodName) prog_8_method_2_code (1 : Nat) (Option.none : Option Jvm.ClassFile.FieldType)) ∈ lw_tbl := lw_at lw_m6 46 rfl
theorem qt1492 : (Jvm.Cond.methodLink "RegionHouse$Reader" (62 : Nat) ({ cls := "RegionHouse$Reader", name := "isWord", desc := "(I)Z" } : Jvm.MethodName)) ∈ lw_tbl := lw_at lw_m6 47 rfl
theorem qt1494 : (Jvm.Cond.instanceMethod ({ cls := "RegionHouse$Reader", name := "isWord", desc := "(I)Z" } : Jvm.MethodName)) ∈ lw_tbl := lw_at lw_m6 49 rfl
theorem qt1495 : (Jvm.Cond.code ({ cls := "RegionHouse$Reader", name := "isWord", desc := "(I)Z" } : Jvm.MethodName) prog_9_method_3_code (2 : Nat) (Option.some Jvm.ClassFile.FieldType.boolean)) ∈ lw_tbl := lw_at lw_m6 50 rfl
theorem qt1496 : (Jvm.Cond.methodLink "RegionHouse$Reader" (48 : Nat) ({ cls := "RegionHouse$Lexemes", name := "isWord", desc := "(II)Z" } : Jvm.MethodName)) ∈ lw_tbl := lw_at lw_m6 51 rfl
theorem qt1497 : (Jvm.Cond.instanceMethod ({ cls := "RegionHouse$Lexemes", name := "isWord", desc := "(II)Z" } : Jvm.MethodName)) ∈ lw_tbl := lw_at lw_m6 52 rfl
theorem qt1498 : (Jvm.Cond.selects "RegionHouse$Lexemes" ({ cls := "RegionHouse$Lexemes", name := "isWord", desc := "(II)Z" } : Jvm.MethodName) ({ cls := "RegionHouse$Lexemes", name := "isWord", desc := "(II)Z" } : Jvm.MethodName)) ∈ lw_tbl := lw_at lw_m6 53 rfl
theorem qt1499 : (Jvm.Cond.code ({ cls := "RegionHouse$Lexemes", name := "isWord", desc := "(II)Z" } : Jvm.MethodName) prog_4_method_7_code (3 : Nat) (Option.some Jvm.ClassFile.FieldType.boolean)) ∈ lw_tbl := lw_at lw_m6 54 rfl
theorem qt1500 : (Jvm.Cond.methodLink "RegionHouse$Reader" (107 : Nat) ({ cls := "RegionHouse$Reader", name := "function", desc := "()V" } : Jvm.MethodName)) ∈ lw_tbl := lw_at lw_m6 55 rfl
theorem qt1502 : (Jvm.Cond.instanceMethod ({ cls := "RegionHouse$Reader", name := "function", desc := "()V" } : Jvm.MethodName)) ∈ lw_tbl := lw_at lw_m6 57 rfl
theorem qt1503 : (Jvm.Cond.code ({ cls := "RegionHouse$Reader", name := "function", desc := "()V" } : Jvm.MethodName) prog_9_method_13_code (4 : Nat) (Option.none : Option Jvm.ClassFile.FieldType)) ∈ lw_tbl := lw_at lw_m6 58 rfl
theorem qt1504 : (Jvm.Cond.methodLink "RegionHouse$Reader" (67 : Nat) ({ cls := "RegionHouse$Lexemes", name := "kind", desc := "(I)I" } : Jvm.MethodName)) ∈ lw_tbl := lw_at lw_m6 59 rfl
theorem qt1505 : (Jvm.Cond.instanceMethod ({ cls := "RegionHouse$Lexemes", name := "kind", desc := "(I)I" } : Jvm.MethodName)) ∈ lw_tbl := lw_at lw_m6 60 rfl
theorem qt1506 : (Jvm.Cond.selects "RegionHouse$Lexemes" ({ cls := "RegionHouse$Lexemes", name := "kind", desc := "(I)I" } : Jvm.MethodName) ({ cls := "RegionHouse$Lexemes", name := "kind", desc := "(I)I" } : Jvm.MethodName)) ∈ lw_tbl := lw_at lw_m6 61 rfl
theorem qt1507 : (Jvm.Cond.code ({ cls := "RegionHouse$Lexemes", name := "kind", desc := "(I)I" } : Jvm.MethodName) prog_4_method_3_code (2 : Nat) (Option.some Jvm.ClassFile.FieldType.int)) ∈ lw_tbl := lw_at lw_m6 62 rfl
theorem qt1508 : (Jvm.Cond.methodLink "RegionHouse$Reader" (61 : Nat) ({ cls := "RegionHouse$Reader", name := "fail", desc := "(II)V" } : Jvm.MethodName)) ∈ lw_tbl := lw_at lw_m6 63 rfl
theorem qt1510 : (Jvm.Cond.instanceMethod ({ cls := "RegionHouse$Reader", name := "fail", desc := "(II)V" } : Jvm.MethodName)) ∈ lw_tbl := lw_at lw_m6 65 rfl
theorem qt1511 : (Jvm.Cond.code ({ cls := "RegionHouse$Reader", name := "fail", desc := "(II)V" } : Jvm.MethodName) prog_9_method_2_code (3 : Nat) (Option.none : Option Jvm.ClassFile.FieldType)) ∈ lw_tbl := lw_at lw_m6 66 rfl
theorem qt1512 : (Jvm.Cond.methodLink "RegionHouse$Reader" (32 : Nat) ({ cls := "RegionHouse$Lexemes", name := "start", desc := "(I)I" } : Jvm.MethodName)) ∈ lw_tbl := lw_at lw_m6 67 rfl
theorem qt1513 : (Jvm.Cond.instanceMethod ({ cls := "RegionHouse$Lexemes", name := "start", desc := "(I)I" } : Jvm.MethodName)) ∈ lw_tbl := lw_at lw_m6 68 rfl
theorem qt1514 : (Jvm.Cond.selects "RegionHouse$Lexemes" ({ cls := "RegionHouse$Lexemes", name := "start", desc := "(I)I" } : Jvm.MethodName) ({ cls := "RegionHouse$Lexemes", name := "start", desc := "(I)I" } : Jvm.MethodName)) ∈ lw_tbl := lw_at lw_m6 69 rfl
theorem qt1515 : (Jvm.Cond.code ({ cls := "RegionHouse$Lexemes", name := "start", desc := "(I)I" } : Jvm.MethodName) prog_4_method_6_code (2 : Nat) (Option.some Jvm.ClassFile.FieldType.int)) ∈ lw_tbl := lw_at lw_m6 70 rfl
theorem qt1516 : (Jvm.Cond.methodLink "RegionHouse$Reader" (38 : Nat) ({ cls := "RegionHouse$Fault", name := "fail", desc := "(II)V" } : Jvm.MethodName)) ∈ lw_tbl := lw_at lw_m6 71 rfl
theorem qt1517 : (Jvm.Cond.methodLink "RegionHouse$Reader" (70 : Nat) ({ cls := "RegionHouse$Lexemes", name := "name", desc := "(I)J" } : Jvm.MethodName)) ∈ lw_tbl := lw_at lw_m6 72 rfl
theorem qt1518 : (Jvm.Cond.instanceMethod ({ cls := "RegionHouse$Lexemes", name := "name", desc := "(I)J" } : Jvm.MethodName)) ∈ lw_tbl := lw_at lw_m6 73 rfl
theorem qt1519 : (Jvm.Cond.selects "RegionHouse$Lexemes" ({ cls := "RegionHouse$Lexemes", name := "name", desc := "(I)J" } : Jvm.MethodName) ({ cls := "RegionHouse$Lexemes", name := "name", desc := "(I)J" } : Jvm.MethodName)) ∈ lw_tbl := lw_at lw_m6 74 rfl
theorem qt1520 : (Jvm.Cond.code ({ cls := "RegionHouse$Lexemes", name := "name", desc := "(I)J" } : Jvm.MethodName) prog_4_method_5_code (2 : Nat) (Option.some Jvm.ClassFile.FieldType.long)) ∈ lw_tbl := lw_at lw_m6 75 rfl
theorem qt1521 : (Jvm.Cond.methodLink "RegionHouse$Reader" (82 : Nat) ({ cls := "RegionHouse$Program", name := "function", desc := "(JI)I" } : Jvm.MethodName)) ∈ lw_tbl := lw_at lw_m6 76 rfl
theorem qt1522 : (Jvm.Cond.instanceMethod ({ cls := "RegionHouse$Program", name := "function", desc := "(JI)I" } : Jvm.MethodName)) ∈ lw_tbl := lw_at lw_m6 77 rfl
theorem qt1523 : (Jvm.Cond.selects "RegionHouse$Program" ({ cls := "RegionHouse$Program", name := "function", desc := "(JI)I" } : Jvm.MethodName) ({ cls := "RegionHouse$Program", name := "function", desc := "(JI)I" } : Jvm.MethodName)) ∈ lw_tbl := lw_at lw_m6 78 rfl
theorem qt1524 : (Jvm.Cond.code ({ cls := "RegionHouse$Program", name := "function", desc := "(JI)I" } : Jvm.MethodName) prog_8_method_9_code (5 : Nat) (Option.some Jvm.ClassFile.FieldType.int)) ∈ lw_tbl := lw_at lw_m6 79 rfl
theorem qt1525 : (Jvm.Cond.methodLink "RegionHouse$Reader" (129 : Nat) ({ cls := "RegionHouse$Reader", name := "mustSign", desc := "(I)V" } : Jvm.MethodName)) ∈ lw_tbl := lw_at lw_m6 80 rfl
theorem qt1527 : (Jvm.Cond.instanceMethod ({ cls := "RegionHouse$Reader", name := "mustSign", desc := "(I)V" } : Jvm.MethodName)) ∈ lw_tbl := lw_at lw_m6 82 rfl
theorem qt1528 : (Jvm.Cond.code ({ cls := "RegionHouse$Reader", name := "mustSign", desc := "(I)V" } : Jvm.MethodName) prog_9_method_6_code (2 : Nat) (Option.none : Option Jvm.ClassFile.FieldType)) ∈ lw_tbl := lw_at lw_m6 83 rfl
theorem qt1529 : (Jvm.Cond.methodLink "RegionHouse$Reader" (58 : Nat) ({ cls := "RegionHouse$Reader", name := "takeSign", desc := "(I)Z" } : Jvm.MethodName)) ∈ lw_tbl := lw_at lw_m6 84 rfl
theorem qt1531 : (Jvm.Cond.instanceMethod ({ cls := "RegionHouse$Reader", name := "takeSign", desc := "(I)Z" } : Jvm.MethodName)) ∈ lw_tbl := lw_at lw_m6 86 rfl
theorem qt1532 : (Jvm.Cond.code ({ cls := "RegionHouse$Reader", name := "takeSign", desc := "(I)Z" } : Jvm.MethodName) prog_9_method_5_code (3 : Nat) (Option.some Jvm.ClassFile.FieldType.boolean)) ∈ lw_tbl := lw_at lw_m6 87 rfl
theorem qt1533 : (Jvm.Cond.methodLink "RegionHouse$Reader" (55 : Nat) ({ cls := "RegionHouse$Reader", name := "isSign", desc := "(I)Z" } : Jvm.MethodName)) ∈ lw_tbl := lw_at lw_m6 88 rfl
theorem qt1535 : (Jvm.Cond.instanceMethod ({ cls := "RegionHouse$Reader", name := "isSign", desc := "(I)Z" } : Jvm.MethodName)) ∈ lw_tbl := lw_at lw_m6 90 rfl
theorem qt1536 : (Jvm.Cond.code ({ cls := "RegionHouse$Reader", name := "isSign", desc := "(I)Z" } : Jvm.MethodName) prog_9_method_4_code (2 : Nat) (Option.some Jvm.ClassFile.FieldType.boolean)) ∈ lw_tbl := lw_at lw_m6 91 rfl
theorem qt1537 : (Jvm.Cond.methodLink "RegionHouse$Reader" (52 : Nat) ({ cls := "RegionHouse$Lexemes", name := "isSign", desc := "(II)Z" } : Jvm.MethodName)) ∈ lw_tbl := lw_at lw_m6 92 rfl
theorem qt1538 : (Jvm.Cond.instanceMethod ({ cls := "RegionHouse$Lexemes", name := "isSign", desc := "(II)Z" } : Jvm.MethodName)) ∈ lw_tbl := lw_at lw_m6 93 rfl
theorem qt1539 : (Jvm.Cond.selects "RegionHouse$Lexemes" ({ cls := "RegionHouse$Lexemes", name := "isSign", desc := "(II)Z" } : Jvm.MethodName) ({ cls := "RegionHouse$Lexemes", name := "isSign", desc := "(II)Z" } : Jvm.MethodName)) ∈ lw_tbl := lw_at lw_m6 94 rfl
theorem qt1540 : (Jvm.Cond.code ({ cls := "RegionHouse$Lexemes", name := "isSign", desc := "(II)Z" } : Jvm.MethodName) prog_4_method_8_code (3 : Nat) (Option.some Jvm.ClassFile.FieldType.boolean)) ∈ lw_tbl := lw_at lw_m6 95 rfl
theorem qt1541 : (Jvm.Cond.methodLink "RegionHouse$Reader" (141 : Nat) ({ cls := "RegionHouse$Reader", name := "parameter", desc := "(I)I" } : Jvm.MethodName)) ∈ lw_tbl := lw_at lw_m6 96 rfl
theorem qt1543 : (Jvm.Cond.instanceMethod ({ cls := "RegionHouse$Reader", name := "parameter", desc := "(I)I" } : Jvm.MethodName)) ∈ lw_tbl := lw_at lw_m6 98 rfl
theorem qt1544 : (Jvm.Cond.code ({ cls := "RegionHouse$Reader", name := "parameter", desc := "(I)I" } : Jvm.MethodName) prog_9_method_14_code (2 : Nat) (Option.some Jvm.ClassFile.FieldType.int)) ∈ lw_tbl := lw_at lw_m6 99 rfl
theorem qt1545 : (Jvm.Cond.methodLink "RegionHouse$Reader" (144 : Nat) ({ cls := "RegionHouse$Reader", name := "variable", desc := "(I)I" } : Jvm.MethodName)) ∈ lw_tbl := lw_at lw_m6 100 rfl
theorem qt1547 : (Jvm.Cond.instanceMethod ({ cls := "RegionHouse$Reader", name := "variable", desc := "(I)I" } : Jvm.MethodName)) ∈ lw_tbl := lw_at lw_m6 102 rfl
theorem qt1548 : (Jvm.Cond.code ({ cls := "RegionHouse$Reader", name := "variable", desc := "(I)I" } : Jvm.MethodName) prog_9_method_10_code (4 : Nat) (Option.some Jvm.ClassFile.FieldType.int)) ∈ lw_tbl := lw_at lw_m6 103 rfl
theorem qt1549 : (Jvm.Cond.methodLink "RegionHouse$Reader" (74 : Nat) ({ cls := "RegionHouse$Program", name := "variable", desc := "(JI)I" } : Jvm.MethodName)) ∈ lw_tbl := lw_at lw_m6 104 rfl
theorem qt1550 : (Jvm.Cond.instanceMethod ({ cls := "RegionHouse$Program", name := "variable", desc := "(JI)I" } : Jvm.MethodName)) ∈ lw_tbl := lw_at lw_m6 105 rfl
theorem qt1551 : (Jvm.Cond.selects "RegionHouse$Program" ({ cls := "RegionHouse$Program", name := "variable", desc := "(JI)I" } : Jvm.MethodName) ({ cls := "RegionHouse$Program", name := "variable", desc := "(JI)I" } : Jvm.MethodName)) ∈ lw_tbl := lw_at lw_m6 106 rfl
theorem qt1552 : (Jvm.Cond.code ({ cls := "RegionHouse$Program", name := "variable", desc := "(JI)I" } : Jvm.MethodName) prog_8_method_8_code (5 : Nat) (Option.some Jvm.ClassFile.FieldType.int)) ∈ lw_tbl := lw_at lw_m6 107 rfl
theorem qt1553 : (Jvm.Cond.methodLink "RegionHouse$Reader" (78 : Nat) ({ cls := "RegionHouse$Reader", name := "known", desc := "()I" } : Jvm.MethodName)) ∈ lw_tbl := lw_at lw_m6 108 rfl
theorem qt1555 : (Jvm.Cond.instanceMethod ({ cls := "RegionHouse$Reader", name := "known", desc := "()I" } : Jvm.MethodName)) ∈ lw_tbl := lw_at lw_m6 110 rfl
theorem qt1556 : (Jvm.Cond.code ({ cls := "RegionHouse$Reader", name := "known", desc := "()I" } : Jvm.MethodName) prog_9_method_11_code (1 : Nat) (Option.some Jvm.ClassFile.FieldType.int)) ∈ lw_tbl := lw_at lw_m6 111 rfl
theorem qt1557 : (Jvm.Cond.methodLink "RegionHouse$Reader" (98 : Nat) ({ cls := "java/lang/Math", name := "min", desc := "(II)I" } : Jvm.MethodName)) ∈ lw_tbl := lw_at lw_m6 112 rfl
theorem qt1558 : (Jvm.Cond.static ({ cls := "java/lang/Math", name := "min", desc := "(II)I" } : Jvm.MethodName)) ∈ lw_tbl := lw_at lw_m6 113 rfl
theorem qt1559 : (Jvm.Cond.code ({ cls := "java/lang/Math", name := "min", desc := "(II)I" } : Jvm.MethodName) prog_23_method_69_code (2 : Nat) (Option.some Jvm.ClassFile.FieldType.int)) ∈ lw_tbl := lw_at lw_m6 114 rfl
theorem qt1560 : (Jvm.Cond.methodLink "RegionHouse$Reader" (89 : Nat) ({ cls := "RegionHouse$Program", name := "addVariable", desc := "(JIII)I" } : Jvm.MethodName)) ∈ lw_tbl := lw_at lw_m6 115 rfl
theorem qt1561 : (Jvm.Cond.instanceMethod ({ cls := "RegionHouse$Program", name := "addVariable", desc := "(JIII)I" } : Jvm.MethodName)) ∈ lw_tbl := lw_at lw_m6 116 rfl
theorem qt1562 : (Jvm.Cond.selects "RegionHouse$Program" ({ cls := "RegionHouse$Program", name := "addVariable", desc := "(JIII)I" } : Jvm.MethodName) ({ cls := "RegionHouse$Program", name := "addVariable", desc := "(JIII)I" } : Jvm.MethodName)) ∈ lw_tbl := lw_at lw_m6 117 rfl
theorem qt1563 : (Jvm.Cond.code ({ cls := "RegionHouse$Program", name := "addVariable", desc := "(JIII)I" } : Jvm.MethodName) prog_8_method_6_code (7 : Nat) (Option.some Jvm.ClassFile.FieldType.int)) ∈ lw_tbl := lw_at lw_m6 118 rfl
theorem qt1564 : (Jvm.Cond.methodLink "RegionHouse$Reader" (135 : Nat) ({ cls := "RegionHouse$Reader", name := "whole", desc := "()V" } : Jvm.MethodName)) ∈ lw_tbl := lw_at lw_m6 119 rfl
theorem qt1566 : (Jvm.Cond.instanceMethod ({ cls := "RegionHouse$Reader", name := "whole", desc := "()V" } : Jvm.MethodName)) ∈ lw_tbl := lw_at lw_m6 121 rfl
theorem qt1567 : (Jvm.Cond.code ({ cls := "RegionHouse$Reader", name := "whole", desc := "()V" } : Jvm.MethodName) prog_9_method_15_code (2 : Nat) (Option.none : Option Jvm.ClassFile.FieldType)) ∈ lw_tbl := lw_at lw_m6 122 rfl
theorem qt1568 : (Jvm.Cond.methodLink "RegionHouse$Reader" (161 : Nat) ({ cls := "RegionHouse$Reader", name := "expression", desc := "()I" } : Jvm.MethodName)) ∈ lw_tbl := lw_at lw_m6 123 rfl
theorem qt1570 : (Jvm.Cond.instanceMethod ({ cls := "RegionHouse$Reader", name := "expression", desc := "()I" } : Jvm.MethodName)) ∈ lw_tbl := lw_at lw_m6 125 rfl
theorem qt1571 : (Jvm.Cond.code ({ cls := "RegionHouse$Reader", name := "expression", desc := "()I" } : Jvm.MethodName) prog_9_method_17_code (2 : Nat) (Option.some Jvm.ClassFile.FieldType.int)) ∈ lw_tbl := lw_at lw_m6 126 rfl
theorem qt1572 : (Jvm.Cond.methodLink "RegionHouse$Reader" (179 : Nat) ({ cls := "RegionHouse$Reader", name := "fn", desc := "()I" } : Jvm.MethodName)) ∈ lw_tbl := lw_at lw_m6 127 rfl
theorem qt1574 : (Jvm.Cond.instanceMethod ({ cls := "RegionHouse$Reader", name := "fn", desc := "()I" } : Jvm.MethodName)) ∈ lw_tbl := lw_at lw_m6 129 rfl
theorem qt1575 : (Jvm.Cond.code ({ cls := "RegionHouse$Reader", name := "fn", desc := "()I" } : Jvm.MethodName) prog_9_method_18_code (8 : Nat) (Option.some Jvm.ClassFile.FieldType.int)) ∈ lw_tbl := lw_at lw_m6 130 rfl
theorem qt1576 : (Jvm.Cond.methodLink "RegionHouse$Reader" (193 : Nat) ({ cls := "RegionHouse$Program", name := "addFn", desc := "(I)I" } : Jvm.MethodName)) ∈ lw_tbl := lw_at lw_m6 131 rfl
theorem qt1577 : (Jvm.Cond.instanceMethod ({ cls := "RegionHouse$Program", name := "addFn", desc := "(I)I" } : Jvm.MethodName)) ∈ lw_tbl := lw_at lw_m6 132 rfl
theorem qt1578 : (Jvm.Cond.selects "RegionHouse$Program" ({ cls := "RegionHouse$Program", name := "addFn", desc := "(I)I" } : Jvm.MethodName) ({ cls := "RegionHouse$Program", name := "addFn", desc := "(I)I" } : Jvm.MethodName)) ∈ lw_tbl := lw_at lw_m6 133 rfl
theorem qt1579 : (Jvm.Cond.code ({ cls := "RegionHouse$Program", name := "addFn", desc := "(I)I" } : Jvm.MethodName) prog_8_method_7_code (3 : Nat) (Option.some Jvm.ClassFile.FieldType.int)) ∈ lw_tbl := lw_at lw_m6 134 rfl
theorem qt1580 : (Jvm.Cond.methodLink "RegionHouse$Reader" (199 : Nat) ({ cls := "RegionHouse$Program", name := "add", desc := "(IIII)I" } : Jvm.MethodName)) ∈ lw_tbl := lw_at lw_m6 135 rfl
theorem qt1581 : (Jvm.Cond.instanceMethod ({ cls := "RegionHouse$Program", name := "add", desc := "(IIII)I" } : Jvm.MethodName)) ∈ lw_tbl := lw_at lw_m6 136 rfl
theorem qt1582 : (Jvm.Cond.selects "RegionHouse$Program" ({ cls := "RegionHouse$Program", name := "add", desc := "(IIII)I" } : Jvm.MethodName) ({ cls := "RegionHouse$Program", name := "add", desc := "(IIII)I" } : Jvm.MethodName)) ∈ lw_tbl := lw_at lw_m6 137 rfl
theorem qt1583 : (Jvm.Cond.code ({ cls := "RegionHouse$Program", name := "add", desc := "(IIII)I" } : Jvm.MethodName) prog_8_method_3_code (6 : Nat) (Option.some Jvm.ClassFile.FieldType.int)) ∈ lw_tbl := lw_at lw_m6 138 rfl
theorem qt1584 : (Jvm.Cond.methodLink "RegionHouse$Reader" (203 : Nat) ({ cls := "RegionHouse$Program", name := "put", desc := "(IIII)V" } : Jvm.MethodName)) ∈ lw_tbl := lw_at lw_m6 139 rfl
theorem qt1585 : (Jvm.Cond.instanceMethod ({ cls := "RegionHouse$Program", name := "put", desc := "(IIII)V" } : Jvm.MethodName)) ∈ lw_tbl := lw_at lw_m6 140 rfl
theorem qt1586 : (Jvm.Cond.selects "RegionHouse$Program" ({ cls := "RegionHouse$Program", name := "put", desc := "(IIII)V" } : Jvm.MethodName) ({ cls := "RegionHouse$Program", name := "put", desc := "(IIII)V" } : Jvm.MethodName)) ∈ lw_tbl := lw_at lw_m6 141 rfl
theorem qt1587 : (Jvm.Cond.code ({ cls := "RegionHouse$Program", name := "put", desc := "(IIII)V" } : Jvm.MethodName) prog_8_method_4_code (5 : Nat) (Option.none : Option Jvm.ClassFile.FieldType)) ∈ lw_tbl := lw_at lw_m6 142 rfl
theorem qt1588 : (Jvm.Cond.methodLink "RegionHouse$Program" (131 : Nat) ({ cls := "RegionHouse$Program", name := "enclose", desc := "(III)V" } : Jvm.MethodName)) ∈ lw_tbl := lw_at lw_m6 143 rfl
theorem qt1589 : (Jvm.Cond.instanceMethod ({ cls := "RegionHouse$Program", name := "enclose", desc := "(III)V" } : Jvm.MethodName)) ∈ lw_tbl := lw_at lw_m6 144 rfl
theorem qt1590 : (Jvm.Cond.selects "RegionHouse$Program" ({ cls := "RegionHouse$Program", name := "enclose", desc := "(III)V" } : Jvm.MethodName) ({ cls := "RegionHouse$Program", name := "enclose", desc := "(III)V" } : Jvm.MethodName)) ∈ lw_tbl := lw_at lw_m6 145 rfl
theorem qt1591 : (Jvm.Cond.code ({ cls := "RegionHouse$Program", name := "enclose", desc := "(III)V" } : Jvm.MethodName) prog_8_method_5_code (4 : Nat) (Option.none : Option Jvm.ClassFile.FieldType)) ∈ lw_tbl := lw_at lw_m6 146 rfl
theorem qt1592 : (Jvm.Cond.methodLink "RegionHouse$Program" (135 : Nat) ({ cls := "java/lang/Math", name := "min", desc := "(II)I" } : Jvm.MethodName)) ∈ lw_tbl := lw_at lw_m6 147 rfl
theorem qt1593 : (Jvm.Cond.methodLink "RegionHouse$Reader" (181 : Nat) ({ cls := "RegionHouse$Reader", name := "choice", desc := "()I" } : Jvm.MethodName)) ∈ lw_tbl := lw_at lw_m6 148 rfl
theorem qt1595 : (Jvm.Cond.instanceMethod ({ cls := "RegionHouse$Reader", name := "choice", desc := "()I" } : Jvm.MethodName)) ∈ lw_tbl := lw_at lw_m6 150 rfl
theorem qt1596 : (Jvm.Cond.code ({ cls := "RegionHouse$Reader", name := "choice", desc := "()I" } : Jvm.MethodName) prog_9_method_19_code (6 : Nat) (Option.some Jvm.ClassFile.FieldType.int)) ∈ lw_tbl := lw_at lw_m6 151 rfl
theorem qt1597 : (Jvm.Cond.methodLink "RegionHouse$Reader" (109 : Nat) ({ cls := "RegionHouse$Reader", name := "mustWord", desc := "(I)V" } : Jvm.MethodName)) ∈ lw_tbl := lw_at lw_m6 152 rfl
theorem qt1599 : (Jvm.Cond.instanceMethod ({ cls := "RegionHouse$Reader", name := "mustWord", desc := "(I)V" } : Jvm.MethodName)) ∈ lw_tbl := lw_at lw_m6 154 rfl
theorem qt1600 : (Jvm.Cond.code ({ cls := "RegionHouse$Reader", name := "mustWord", desc := "(I)V" } : Jvm.MethodName) prog_9_method_7_code (2 : Nat) (Option.none : Option Jvm.ClassFile.FieldType)) ∈ lw_tbl := lw_at lw_m6 155 rfl
theorem qt1601 : (Jvm.Cond.methodLink "RegionHouse$Reader" (184 : Nat) ({ cls := "RegionHouse$Reader", name := "let", desc := "()I" } : Jvm.MethodName)) ∈ lw_tbl := lw_at lw_m6 156 rfl
theorem qt1603 : (Jvm.Cond.instanceMethod ({ cls := "RegionHouse$Reader", name := "let", desc := "()I" } : Jvm.MethodName)) ∈ lw_tbl := lw_at lw_m6 158 rfl
theorem qt1604 : (Jvm.Cond.code ({ cls := "RegionHouse$Reader", name := "let", desc := "()I" } : Jvm.MethodName) prog_9_method_20_code (7 : Nat) (Option.some Jvm.ClassFile.FieldType.int)) ∈ lw_tbl := lw_at lw_m6 159 rfl
theorem qt1605 : (Jvm.Cond.methodLink "RegionHouse$Reader" (187 : Nat) ({ cls := "RegionHouse$Reader", name := "cases", desc := "()I" } : Jvm.MethodName)) ∈ lw_tbl := lw_at lw_m6 160 rfl
theorem qt1607 : (Jvm.Cond.instanceMethod ({ cls := "RegionHouse$Reader", name := "cases", desc := "()I" } : Jvm.MethodName)) ∈ lw_tbl := lw_at lw_m6 162 rfl
theorem qt1608 : (Jvm.Cond.code ({ cls := "RegionHouse$Reader", name := "cases", desc := "()I" } : Jvm.MethodName) prog_9_method_21_code (9 : Nat) (Option.some Jvm.ClassFile.FieldType.int)) ∈ lw_tbl := lw_at lw_m6 163 rfl
theorem qt1609 : (Jvm.Cond.methodLink "RegionHouse$Reader" (190 : Nat) ({ cls := "RegionHouse$Reader", name := "chain", desc := "()I" } : Jvm.MethodName)) ∈ lw_tbl := lw_at lw_m6 164 rfl
theorem qt1611 : (Jvm.Cond.instanceMethod ({ cls := "RegionHouse$Reader", name := "chain", desc := "()I" } : Jvm.MethodName)) ∈ lw_tbl := lw_at lw_m6 166 rfl
theorem qt1612 : (Jvm.Cond.code ({ cls := "RegionHouse$Reader", name := "chain", desc := "()I" } : Jvm.MethodName) prog_9_method_22_code (7 : Nat) (Option.some Jvm.ClassFile.FieldType.int)) ∈ lw_tbl := lw_at lw_m6 167 rfl
theorem qt1613 : (Jvm.Cond.methodLink "RegionHouse$Reader" (219 : Nat) ({ cls := "RegionHouse$Reader", name := "compared", desc := "()I" } : Jvm.MethodName)) ∈ lw_tbl := lw_at lw_m6 168 rfl
theorem qt1615 : (Jvm.Cond.instanceMethod ({ cls := "RegionHouse$Reader", name := "compared", desc := "()I" } : Jvm.MethodName)) ∈ lw_tbl := lw_at lw_m6 170 rfl
theorem qt1616 : (Jvm.Cond.code ({ cls := "RegionHouse$Reader", name := "compared", desc := "()I" } : Jvm.MethodName) prog_9_method_24_code (5 : Nat) (Option.some Jvm.ClassFile.FieldType.int)) ∈ lw_tbl := lw_at lw_m6 171 rfl
theorem qt1617 : (Jvm.Cond.methodLink "RegionHouse$Reader" (231 : Nat) ({ cls := "RegionHouse$Reader", name := "sum", desc := "()I" } : Jvm.MethodName)) ∈ lw_tbl := lw_at lw_m6 172 rfl
theorem qt1619 : (Jvm.Cond.instanceMethod ({ cls := "RegionHouse$Reader", name := "sum", desc := "()I" } : Jvm.MethodName)) ∈ lw_tbl := lw_at lw_m6 174 rfl
theorem qt1620 : (Jvm.Cond.code ({ cls := "RegionHouse$Reader", name := "sum", desc := "()I" } : Jvm.MethodName) prog_9_method_25_code (5 : Nat) (Option.some Jvm.ClassFile.FieldType.int)) ∈ lw_tbl := lw_at lw_m6 175 rfl
theorem qt1621 : (Jvm.Cond.methodLink "RegionHouse$Reader" (237 : Nat) ({ cls := "RegionHouse$Reader", name := "product", desc := "()I" } : Jvm.MethodName)) ∈ lw_tbl := lw_at lw_m6 176 rfl
theorem qt1623 : (Jvm.Cond.instanceMethod ({ cls := "RegionHouse$Reader", name := "product", desc := "()I" } : Jvm.MethodName)) ∈ lw_tbl := lw_at lw_m6 178 rfl
theorem qt1624 : (Jvm.Cond.code ({ cls := "RegionHouse$Reader", name := "product", desc := "()I" } : Jvm.MethodName) prog_9_method_26_code (5 : Nat) (Option.some Jvm.ClassFile.FieldType.int)) ∈ lw_tbl := lw_at lw_m6 179 rfl
theorem qt1625 : (Jvm.Cond.methodLink "RegionHouse$Reader" (240 : Nat) ({ cls := "RegionHouse$Reader", name := "applied", desc := "()I" } : Jvm.MethodName)) ∈ lw_tbl := lw_at lw_m6 180 rfl
theorem qt1627 : (Jvm.Cond.instanceMethod ({ cls := "RegionHouse$Reader", name := "applied", desc := "()I" } : Jvm.MethodName)) ∈ lw_tbl := lw_at lw_m6 182 rfl
theorem qt1628 : (Jvm.Cond.code ({ cls := "RegionHouse$Reader", name := "applied", desc := "()I" } : Jvm.MethodName) prog_9_method_28_code (5 : Nat) (Option.some Jvm.ClassFile.FieldType.int)) ∈ lw_tbl := lw_at lw_m6 183 rfl
theorem qt1629 : (Jvm.Cond.methodLink "RegionHouse$Reader" (243 : Nat) ({ cls := "RegionHouse$Reader", name := "atom", desc := "()I" } : Jvm.MethodName)) ∈ lw_tbl := lw_at lw_m6 184 rfl
theorem qt1631 : (Jvm.Cond.instanceMethod ({ cls := "RegionHouse$Reader", name := "atom", desc := "()I" } : Jvm.MethodName)) ∈ lw_tbl := lw_at lw_m6 186 rfl
theorem qt1632 : (Jvm.Cond.code ({ cls := "RegionHouse$Reader", name := "atom", desc := "()I" } : Jvm.MethodName) prog_9_method_29_code (5 : Nat) (Option.some Jvm.ClassFile.FieldType.int)) ∈ lw_tbl := lw_at lw_m6 187 rfl
theorem qt1633 : (Jvm.Cond.methodLink "RegionHouse$Reader" (222 : Nat) ({ cls := "RegionHouse$Reader", name := "hold", desc := "(I)V" } : Jvm.MethodName)) ∈ lw_tbl := lw_at lw_m6 188 rfl
theorem qt1635 : (Jvm.Cond.instanceMethod ({ cls := "RegionHouse$Reader", name := "hold", desc := "(I)V" } : Jvm.MethodName)) ∈ lw_tbl := lw_at lw_m6 190 rfl
theorem qt1636 : (Jvm.Cond.code ({ cls := "RegionHouse$Reader", name := "hold", desc := "(I)V" } : Jvm.MethodName) prog_9_method_8_code (2 : Nat) (Option.none : Option Jvm.ClassFile.FieldType)) ∈ lw_tbl := lw_at lw_m6 191 rfl
theorem qt1637 : (Jvm.Cond.methodLink "RegionHouse$Reader" (250 : Nat) ({ cls := "RegionHouse$Reader", name := "simple", desc := "()I" } : Jvm.MethodName)) ∈ lw_tbl := lw_at lw_m6 192 rfl
theorem qt1639 : (Jvm.Cond.instanceMethod ({ cls := "RegionHouse$Reader", name := "simple", desc := "()I" } : Jvm.MethodName)) ∈ lw_tbl := lw_at lw_m6 194 rfl
theorem qt1640 : (Jvm.Cond.code ({ cls := "RegionHouse$Reader", name := "simple", desc := "()I" } : Jvm.MethodName) prog_9_method_31_code (3 : Nat) (Option.some Jvm.ClassFile.FieldType.int)) ∈ lw_tbl := lw_at lw_m6 195 rfl
theorem qt1641 : (Jvm.Cond.methodLink "RegionHouse$Reader" (253 : Nat) ({ cls := "RegionHouse$Lexemes", name := "value", desc := "(I)I" } : Jvm.MethodName)) ∈ lw_tbl := lw_at lw_m6 196 rfl
theorem qt1642 : (Jvm.Cond.instanceMethod ({ cls := "RegionHouse$Lexemes", name := "value", desc := "(I)I" } : Jvm.MethodName)) ∈ lw_tbl := lw_at lw_m6 197 rfl
theorem qt1643 : (Jvm.Cond.selects "RegionHouse$Lexemes" ({ cls := "RegionHouse$Lexemes", name := "value", desc := "(I)I" } : Jvm.MethodName) ({ cls := "RegionHouse$Lexemes", name := "value", desc := "(I)I" } : Jvm.MethodName)) ∈ lw_tbl := lw_at lw_m6 198 rfl
theorem qt1644 : (Jvm.Cond.code ({ cls := "RegionHouse$Lexemes", name := "value", desc := "(I)I" } : Jvm.MethodName) prog_4_method_4_code (2 : Nat) (Option.some Jvm.ClassFile.FieldType.int)) ∈ lw_tbl := lw_at lw_m6 199 rfl
theorem qt1645 : (Jvm.Cond.methodLink "RegionHouse$Reader" (256 : Nat) ({ cls := "RegionHouse$Reader", name := "alone", desc := "(II)I" } : Jvm.MethodName)) ∈ lw_tbl := lw_at lw_m6 200 rfl
theorem qt1647 : (Jvm.Cond.instanceMethod ({ cls := "RegionHouse$Reader", name := "alone", desc := "(II)I" } : Jvm.MethodName)) ∈ lw_tbl := lw_at lw_m6 202 rfl
theorem qt1648 : (Jvm.Cond.code ({ cls := "RegionHouse$Reader", name := "alone", desc := "(II)I" } : Jvm.MethodName) prog_9_method_30_code (4 : Nat) (Option.some Jvm.ClassFile.FieldType.int)) ∈ lw_tbl := lw_at lw_m6 203 rfl
theorem qt1649 : (Jvm.Cond.methodLink "RegionHouse$Reader" (259 : Nat) ({ cls := "RegionHouse$Reader", name := "bracket", desc := "()I" } : Jvm.MethodName)) ∈ lw_tbl := lw_at lw_m6 204 rfl
theorem qt1651 : (Jvm.Cond.instanceMethod ({ cls := "RegionHouse$Reader", name := "bracket", desc := "()I" } : Jvm.MethodName)) ∈ lw_tbl := lw_at lw_m6 206 rfl
theorem qt1652 : (Jvm.Cond.code ({ cls := "RegionHouse$Reader", name := "bracket", desc := "()I" } : Jvm.MethodName) prog_9_method_32_code (5 : Nat) (Option.some Jvm.ClassFile.FieldType.int)) ∈ lw_tbl := lw_at lw_m6 207 rfl
theorem qt1653 : (Jvm.Cond.methodLink "RegionHouse$Reader" (262 : Nat) ({ cls := "RegionHouse$Program", name := "capture", desc := "(II)V" } : Jvm.MethodName)) ∈ lw_tbl := lw_at lw_m6 208 rfl
theorem qt1654 : (Jvm.Cond.instanceMethod ({ cls := "RegionHouse$Program", name := "capture", desc := "(II)V" } : Jvm.MethodName)) ∈ lw_tbl := lw_at lw_m6 209 rfl
theorem qt1655 : (Jvm.Cond.selects "RegionHouse$Program" ({ cls := "RegionHouse$Program", name := "capture", desc := "(II)V" } : Jvm.MethodName) ({ cls := "RegionHouse$Program", name := "capture", desc := "(II)V" } : Jvm.MethodName)) ∈ lw_tbl := lw_at lw_m6 210 rfl
theorem qt1656 : (Jvm.Cond.code ({ cls := "RegionHouse$Program", name := "capture", desc := "(II)V" } : Jvm.MethodName) prog_8_method_11_code (4 : Nat) (Option.none : Option Jvm.ClassFile.FieldType)) ∈ lw_tbl := lw_at lw_m6 211 rfl
theorem qt1657 : (Jvm.Cond.methodLink "RegionHouse$Program" (141 : Nat) ({ cls := "RegionHouse$Program", name := "captureOf", desc := "(II)I" } : Jvm.MethodName)) ∈ lw_tbl := lw_at lw_m6 212 rfl
theorem qt1658 : (Jvm.Cond.instanceMethod ({ cls := "RegionHouse$Program", name := "captureOf", desc := "(II)I" } : Jvm.MethodName)) ∈ lw_tbl := lw_at lw_m6 213 rfl
theorem qt1659 : (Jvm.Cond.selects "RegionHouse$Program" ({ cls := "RegionHouse$Program", name := "captureOf", desc := "(II)I" } : Jvm.MethodName) ({ cls := "RegionHouse$Program", name := "captureOf", desc := "(II)I" } : Jvm.MethodName)) ∈ lw_tbl := lw_at lw_m6 214 rfl
theorem qt1660 : (Jvm.Cond.code ({ cls := "RegionHouse$Program", name := "captureOf", desc := "(II)I" } : Jvm.MethodName) prog_8_method_10_code (5 : Nat) (Option.some Jvm.ClassFile.FieldType.int)) ∈ lw_tbl := lw_at lw_m6 215 rfl
theorem qt1661 : (Jvm.Cond.methodLink "RegionHouse$Program" (144 : Nat) ({ cls := "RegionHouse$Program", name := "grow", desc := "()V" } : Jvm.MethodName)) ∈ lw_tbl := lw_at lw_m6 216 rfl
theorem qt1663 : (Jvm.Cond.instanceMethod ({ cls := "RegionHouse$Program", name := "grow", desc := "()V" } : Jvm.MethodName)) ∈ lw_tbl := lw_at lw_m6 218 rfl
theorem qt1664 : (Jvm.Cond.code ({ cls := "RegionHouse$Program", name := "grow", desc := "()V" } : Jvm.MethodName) prog_8_method_12_code (1 : Nat) (Option.none : Option Jvm.ClassFile.FieldType)) ∈ lw_tbl := lw_at lw_m6 219 rfl
theorem qt1665 : (Jvm.Cond.methodLink "RegionHouse$Program" (147 : Nat) ({ cls := "java/util/Arrays", name := "copyOf", desc := "([II)[I" } : Jvm.MethodName)) ∈ lw_tbl := lw_at lw_m6 220 rfl
theorem qt1666 : (Jvm.Cond.static ({ cls := "java/util/Arrays", name := "copyOf", desc := "([II)[I" } : Jvm.MethodName)) ∈ lw_tbl := lw_at lw_m6 221 rfl
theorem qt1667 : (Jvm.Cond.code ({ cls := "java/util/Arrays", name := "copyOf", desc := "([II)[I" } : Jvm.MethodName) prog_31_method_123_code (3 : Nat) (Option.some (Jvm.ClassFile.FieldType.array Jvm.ClassFile.FieldType.int))) ∈ lw_tbl := lw_at lw_m6 222 rfl
theorem qt1675 : (Jvm.Cond.methodLink "java/util/Arrays" (304 : Nat) ({ cls := "java/lang/Math", name := "min", desc := "(II)I" } : Jvm.MethodName)) ∈ lw_tbl := lw_at lw_m6 230 rfl
theorem qt1676 : (Jvm.Cond.methodLink "java/util/Arrays" (150 : Nat) ({ cls := "java/lang/System", name := "arraycopy", desc := "(Ljava/lang/Object;ILjava/lang/Object;II)V" } : Jvm.MethodName)) ∈ lw_tbl := lw_at lw_m6 231 rfl
theorem qt1677 : (Jvm.Cond.static ({ cls := "java/lang/System", name := "arraycopy", desc := "(Ljava/lang/Object;ILjava/lang/Object;II)V" } : Jvm.MethodName)) ∈ lw_tbl := lw_at lw_m6 232 rfl
theorem qt1678 : (Jvm.Cond.native ({ cls := "java/lang/System", name := "arraycopy", desc := "(Ljava/lang/Object;ILjava/lang/Object;II)V" } : Jvm.MethodName)) ∈ lw_tbl := lw_at lw_m6 233 rfl
theorem qt1679 : (Jvm.Cond.methodLink "RegionHouse$Reader" (265 : Nat) ({ cls := "RegionHouse$Reader", name := "call", desc := "(I)I" } : Jvm.MethodName)) ∈ lw_tbl := lw_at lw_m6 234 rfl
theorem qt1681 : (Jvm.Cond.instanceMethod ({ cls := "RegionHouse$Reader", name := "call", desc := "(I)I" } : Jvm.MethodName)) ∈ lw_tbl := lw_at lw_m6 236 rfl
theorem qt1682 : (Jvm.Cond.code ({ cls := "RegionHouse$Reader", name := "call", desc := "(I)I" } : Jvm.MethodName) prog_9_method_33_code (9 : Nat) (Option.some Jvm.ClassFile.FieldType.int)) ∈ lw_tbl := lw_at lw_m6 237 rfl
theorem qt1683 : (Jvm.Cond.methodLink "RegionHouse$Reader" (274 : Nat) ({ cls := "RegionHouse$Program", name := "enclose", desc := "(III)V" } : Jvm.MethodName)) ∈ lw_tbl := lw_at lw_m6 238 rfl
theorem qt1684 : (Jvm.Cond.methodLink "RegionHouse$Reader" (225 : Nat) ({ cls := "RegionHouse$Reader", name := "drop", desc := "()I" } : Jvm.MethodName)) ∈ lw_tbl := lw_at lw_m6 239 rfl
theorem qt1686 : (Jvm.Cond.instanceMethod ({ cls := "RegionHouse$Reader", name := "drop", desc := "()I" } : Jvm.MethodName)) ∈ lw_tbl := lw_at lw_m7 1 rfl
theorem qt1687 : (Jvm.Cond.code ({ cls := "RegionHouse$Reader", name := "drop", desc := "()I" } : Jvm.MethodName) prog_9_method_9_code (1 : Nat) (Option.some Jvm.ClassFile.FieldType.int)) ∈ lw_tbl := lw_at lw_m7 2 rfl
theorem qt1688 : (Jvm.Cond.methodLink "RegionHouse$Reader" (246 : Nat) ({ cls := "RegionHouse$Reader", name := "isAtom", desc := "()Z" } : Jvm.MethodName)) ∈ lw_tbl := lw_at lw_m7 3 rfl
theorem qt1690 : (Jvm.Cond.instanceMethod ({ cls := "RegionHouse$Reader", name := "isAtom", desc := "()Z" } : Jvm.MethodName)) ∈ lw_tbl := lw_at lw_m7 5 rfl
theorem qt1691 : (Jvm.Cond.code ({ cls := "RegionHouse$Reader", name := "isAtom", desc := "()Z" } : Jvm.MethodName) prog_9_method_27_code (1 : Nat) (Option.some Jvm.ClassFile.FieldType.boolean)) ∈ lw_tbl := lw_at lw_m7 6 rfl
theorem qt1692 : (Jvm.Cond.methodLink "RegionHouse$Reader" (234 : Nat) ({ cls := "RegionHouse$Reader", name := "between", desc := "(IIII)I" } : Jvm.MethodName)) ∈ lw_tbl := lw_at lw_m7 7 rfl
theorem qt1694 : (Jvm.Cond.instanceMethod ({ cls := "RegionHouse$Reader", name := "between", desc := "(IIII)I" } : Jvm.MethodName)) ∈ lw_tbl := lw_at lw_m7 9 rfl
theorem qt1695 : (Jvm.Cond.code ({ cls := "RegionHouse$Reader", name := "between", desc := "(IIII)I" } : Jvm.MethodName) prog_9_method_23_code (6 : Nat) (Option.some Jvm.ClassFile.FieldType.int)) ∈ lw_tbl := lw_at lw_m7 10 rfl
theorem qt1696 : (Jvm.Cond.methodLink "RegionHouse$Reader" (138 : Nat) ({ cls := "RegionHouse$Reader", name := "far", desc := "()V" } : Jvm.MethodName)) ∈ lw_tbl := lw_at lw_m7 11 rfl
theorem qt1698 : (Jvm.Cond.instanceMethod ({ cls := "RegionHouse$Reader", name := "far", desc := "()V" } : Jvm.MethodName)) ∈ lw_tbl := lw_at lw_m7 13 rfl
theorem qt1699 : (Jvm.Cond.code ({ cls := "RegionHouse$Reader", name := "far", desc := "()V" } : Jvm.MethodName) prog_9_method_16_code (4 : Nat) (Option.none : Option Jvm.ClassFile.FieldType)) ∈ lw_tbl := lw_at lw_m7 14 rfl
theorem qt1700 : (Jvm.Cond.methodLink "RegionHouse" (148 : Nat) ({ cls := "RegionHouse$Typing", name := "clear", desc := "()V" } : Jvm.MethodName)) ∈ lw_tbl := lw_at lw_m7 15 rfl
theorem qt1701 : (Jvm.Cond.instanceMethod ({ cls := "RegionHouse$Typing", name := "clear", desc := "()V" } : Jvm.MethodName)) ∈ lw_tbl := lw_at lw_m7 16 rfl
theorem qt1702 : (Jvm.Cond.selects "RegionHouse$Typing" ({ cls := "RegionHouse$Typing", name := "clear", desc := "()V" } : Jvm.MethodName) ({ cls := "RegionHouse$Typing", name := "clear", desc := "()V" } : Jvm.MethodName)) ∈ lw_tbl := lw_at lw_m7 17 rfl
theorem qt1703 : (Jvm.Cond.code ({ cls := "RegionHouse$Typing", name := "clear", desc := "()V" } : Jvm.MethodName) prog_14_method_2_code (1 : Nat) (Option.none : Option Jvm.ClassFile.FieldType)) ∈ lw_tbl := lw_at lw_m7 18 rfl
theorem qt1704 : (Jvm.Cond.methodLink "RegionHouse$Typing" (54 : Nat) ({ cls := "RegionHouse$Types", name := "clear", desc := "()V" } : Jvm.MethodName)) ∈ lw_tbl := lw_at lw_m7 19 rfl
theorem qt1705 : (Jvm.Cond.instanceMethod ({ cls := "RegionHouse$Types", name := "clear", desc := "()V" } : Jvm.MethodName)) ∈ lw_tbl := lw_at lw_m7 20 rfl
theorem qt1706 : (Jvm.Cond.selects "RegionHouse$Types" ({ cls := "RegionHouse$Types", name := "clear", desc := "()V" } : Jvm.MethodName) ({ cls := "RegionHouse$Types", name := "clear", desc := "()V" } : Jvm.MethodName)) ∈ lw_tbl := lw_at lw_m7 21 rfl
theorem qt1707 : (Jvm.Cond.code ({ cls := "RegionHouse$Types", name := "clear", desc := "()V" } : Jvm.MethodName) prog_13_method_2_code (1 : Nat) (Option.none : Option Jvm.ClassFile.FieldType)) ∈ lw_tbl := lw_at lw_m7 22 rfl
theorem qt1708 : (Jvm.Cond.methodLink "RegionHouse$Types" (57 : Nat) ({ cls := "RegionHouse$Types", name := "add", desc := "(III)I" } : Jvm.MethodName)) ∈ lw_tbl := lw_at lw_m7 23 rfl
theorem qt1709 : (Jvm.Cond.instanceMethod ({ cls := "RegionHouse$Types", name := "add", desc := "(III)I" } : Jvm.MethodName)) ∈ lw_tbl := lw_at lw_m7 24 rfl
theorem qt1710 : (Jvm.Cond.selects "RegionHouse$Types" ({ cls := "RegionHouse$Types", name := "add", desc := "(III)I" } : Jvm.MethodName) ({ cls := "RegionHouse$Types", name := "add", desc := "(III)I" } : Jvm.MethodName)) ∈ lw_tbl := lw_at lw_m7 25 rfl
theorem qt1711 : (Jvm.Cond.code ({ cls := "RegionHouse$Types", name := "add", desc := "(III)I" } : Jvm.MethodName) prog_13_method_4_code (5 : Nat) (Option.some Jvm.ClassFile.FieldType.int)) ∈ lw_tbl := lw_at lw_m7 26 rfl
theorem qt1712 : (Jvm.Cond.methodLink "RegionHouse$Types" (67 : Nat) ({ cls := "RegionHouse$Types", name := "grow", desc := "()V" } : Jvm.MethodName)) ∈ lw_tbl := lw_at lw_m7 27 rfl
theorem qt1714 : (Jvm.Cond.instanceMethod ({ cls := "RegionHouse$Types", name := "grow", desc := "()V" } : Jvm.MethodName)) ∈ lw_tbl := lw_at lw_m7 29 rfl
theorem qt1715 : (Jvm.Cond.code ({ cls := "RegionHouse$Types", name := "grow", desc := "()V" } : Jvm.MethodName) prog_13_method_3_code (2 : Nat) (Option.none : Option Jvm.ClassFile.FieldType)) ∈ lw_tbl := lw_at lw_m7 30 rfl
theorem qt1716 : (Jvm.Cond.methodLink "RegionHouse$Types" (61 : Nat) ({ cls := "java/util/Arrays", name := "copyOf", desc := "([II)[I" } : Jvm.MethodName)) ∈ lw_tbl := lw_at lw_m7 31 rfl
theorem qt1717 : (Jvm.Cond.methodLink "RegionHouse" (151 : Nat) ({ cls := "RegionHouse$Regions", name := "clear", desc := "()V" } : Jvm.MethodName)) ∈ lw_tbl := lw_at lw_m7 32 rfl
theorem qt1718 : (Jvm.Cond.instanceMethod ({ cls := "RegionHouse$Regions", name := "clear", desc := "()V" } : Jvm.MethodName)) ∈ lw_tbl := lw_at lw_m7 33 rfl
theorem qt1719 : (Jvm.Cond.selects "RegionHouse$Regions" ({ cls := "RegionHouse$Regions", name := "clear", desc := "()V" } : Jvm.MethodName) ({ cls := "RegionHouse$Regions", name := "clear", desc := "()V" } : Jvm.MethodName)) ∈ lw_tbl := lw_at lw_m7 34 rfl
theorem qt1720 : (Jvm.Cond.code ({ cls := "RegionHouse$Regions", name := "clear", desc := "()V" } : Jvm.MethodName) prog_10_method_2_code (1 : Nat) (Option.none : Option Jvm.ClassFile.FieldType)) ∈ lw_tbl := lw_at lw_m7 35 rfl
theorem qt1721 : (Jvm.Cond.methodLink "RegionHouse" (156 : Nat) ({ cls := "RegionHouse$Typing", name := "find", desc := "(I)V" } : Jvm.MethodName)) ∈ lw_tbl := lw_at lw_m7 36 rfl
theorem qt1722 : (Jvm.Cond.instanceMethod ({ cls := "RegionHouse$Typing", name := "find", desc := "(I)V" } : Jvm.MethodName)) ∈ lw_tbl := lw_at lw_m7 37 rfl
theorem qt1723 : (Jvm.Cond.selects "RegionHouse$Typing" ({ cls := "RegionHouse$Typing", name := "find", desc := "(I)V" } : Jvm.MethodName) ({ cls := "RegionHouse$Typing", name := "find", desc := "(I)V" } : Jvm.MethodName)) ∈ lw_tbl := lw_at lw_m7 38 rfl
theorem qt1724 : (Jvm.Cond.code ({ cls := "RegionHouse$Typing", name := "find", desc := "(I)V" } : Jvm.MethodName) prog_14_method_14_code (5 : Nat) (Option.none : Option Jvm.ClassFile.FieldType)) ∈ lw_tbl := lw_at lw_m7 39 rfl
theorem qt1725 : (Jvm.Cond.methodLink "RegionHouse$Typing" (107 : Nat) ({ cls := "RegionHouse$Types", name := "unknown", desc := "()I" } : Jvm.MethodName)) ∈ lw_tbl := lw_at lw_m7 40 rfl
theorem qt1726 : (Jvm.Cond.instanceMethod ({ cls := "RegionHouse$Types", name := "unknown", desc := "()I" } : Jvm.MethodName)) ∈ lw_tbl := lw_at lw_m7 41 rfl
theorem qt1727 : (Jvm.Cond.selects "RegionHouse$Types" ({ cls := "RegionHouse$Types", name := "unknown", desc := "()I" } : Jvm.MethodName) ({ cls := "RegionHouse$Types", name := "unknown", desc := "()I" } : Jvm.MethodName)) ∈ lw_tbl := lw_at lw_m7 42 rfl
theorem qt1728 : (Jvm.Cond.code ({ cls := "RegionHouse$Types", name := "unknown", desc := "()I" } : Jvm.MethodName) prog_13_method_5_code (1 : Nat) (Option.some Jvm.ClassFile.FieldType.int)) ∈ lw_tbl := lw_at lw_m7 43 rfl
theorem qt1729 : (Jvm.Cond.methodLink "RegionHouse$Typing" (126 : Nat) ({ cls := "RegionHouse$Typing", name := "copy", desc := "(I)V" } : Jvm.MethodName)) ∈ lw_tbl := lw_at lw_m7 44 rfl
theorem qt1731 : (Jvm.Cond.instanceMethod ({ cls := "RegionHouse$Typing", name := "copy", desc := "(I)V" } : Jvm.MethodName)) ∈ lw_tbl := lw_at lw_m7 46 rfl
theorem qt1732 : (Jvm.Cond.code ({ cls := "RegionHouse$Typing", name := "copy", desc := "(I)V" } : Jvm.MethodName) prog_14_method_16_code (4 : Nat) (Option.none : Option Jvm.ClassFile.FieldType)) ∈ lw_tbl := lw_at lw_m7 47 rfl
theorem qt1733 : (Jvm.Cond.methodLink "RegionHouse$Typing" (137 : Nat) ({ cls := "RegionHouse$Types", name := "beginCopy", desc := "()V" } : Jvm.MethodName)) ∈ lw_tbl := lw_at lw_m7 48 rfl
theorem qt1734 : (Jvm.Cond.instanceMethod ({ cls := "RegionHouse$Types", name := "beginCopy", desc := "()V" } : Jvm.MethodName)) ∈ lw_tbl := lw_at lw_m7 49 rfl
theorem qt1735 : (Jvm.Cond.selects "RegionHouse$Types" ({ cls := "RegionHouse$Types", name := "beginCopy", desc := "()V" } : Jvm.MethodName) ({ cls := "RegionHouse$Types", name := "beginCopy", desc := "()V" } : Jvm.MethodName)) ∈ lw_tbl := lw_at lw_m7 50 rfl
theorem qt1736 : (Jvm.Cond.code ({ cls := "RegionHouse$Types", name := "beginCopy", desc := "()V" } : Jvm.MethodName) prog_13_method_29_code (1 : Nat) (Option.none : Option Jvm.ClassFile.FieldType)) ∈ lw_tbl := lw_at lw_m7 51 rfl
theorem qt1737 : (Jvm.Cond.methodLink "RegionHouse$Typing" (140 : Nat) ({ cls := "RegionHouse$Typing", name := "parameter", desc := "(II)I" } : Jvm.MethodName)) ∈ lw_tbl := lw_at lw_m7 52 rfl
theorem qt1738 : (Jvm.Cond.instanceMethod ({ cls := "RegionHouse$Typing", name := "parameter", desc := "(II)I" } : Jvm.MethodName)) ∈ lw_tbl := lw_at lw_m7 53 rfl
theorem qt1739 : (Jvm.Cond.selects "RegionHouse$Typing" ({ cls := "RegionHouse$Typing", name := "parameter", desc := "(II)I" } : Jvm.MethodName) ({ cls := "RegionHouse$Typing", name := "parameter", desc := "(II)I" } : Jvm.MethodName)) ∈ lw_tbl := lw_at lw_m7 54 rfl
theorem qt1740 : (Jvm.Cond.code ({ cls := "RegionHouse$Typing", name := "parameter", desc := "(II)I" } : Jvm.MethodName) prog_14_method_6_code (3 : Nat) (Option.some Jvm.ClassFile.FieldType.int)) ∈ lw_tbl := lw_at lw_m7 55 rfl
theorem qt1741 : (Jvm.Cond.methodLink "RegionHouse$Typing" (143 : Nat) ({ cls := "RegionHouse$Types", name := "copy", desc := "(I)I" } : Jvm.MethodName)) ∈ lw_tbl := lw_at lw_m7 56 rfl
theorem qt1742 : (Jvm.Cond.instanceMethod ({ cls := "RegionHouse$Types", name := "copy", desc := "(I)I" } : Jvm.MethodName)) ∈ lw_tbl := lw_at lw_m7 57 rfl
theorem qt1743 : (Jvm.Cond.selects "RegionHouse$Types" ({ cls := "RegionHouse$Types", name := "copy", desc := "(I)I" } : Jvm.MethodName) ({ cls := "RegionHouse$Types", name := "copy", desc := "(I)I" } : Jvm.MethodName)) ∈ lw_tbl := lw_at lw_m7 58 rfl
theorem qt1744 : (Jvm.Cond.code ({ cls := "RegionHouse$Types", name := "copy", desc := "(I)I" } : Jvm.MethodName) prog_13_method_30_code (4 : Nat) (Option.some Jvm.ClassFile.FieldType.int)) ∈ lw_tbl := lw_at lw_m7 59 rfl
theorem qt1745 : (Jvm.Cond.methodLink "RegionHouse$Types" (70 : Nat) ({ cls := "RegionHouse$Types", name := "find", desc := "(I)I" } : Jvm.MethodName)) ∈ lw_tbl := lw_at lw_m7 60 rfl
theorem qt1746 : (Jvm.Cond.instanceMethod ({ cls := "RegionHouse$Types", name := "find", desc := "(I)I" } : Jvm.MethodName)) ∈ lw_tbl := lw_at lw_m7 61 rfl
theorem qt1747 : (Jvm.Cond.selects "RegionHouse$Types" ({ cls := "RegionHouse$Types", name := "find", desc := "(I)I" } : Jvm.MethodName) ({ cls := "RegionHouse$Types", name := "find", desc := "(I)I" } : Jvm.MethodName)) ∈ lw_tbl := lw_at lw_m7 62 rfl
theorem qt1748 : (Jvm.Cond.code ({ cls := "RegionHouse$Types", name := "find", desc := "(I)I" } : Jvm.MethodName) prog_13_method_7_code (5 : Nat) (Option.some Jvm.ClassFile.FieldType.int)) ∈ lw_tbl := lw_at lw_m7 63 rfl
theorem qt1749 : (Jvm.Cond.methodLink "RegionHouse$Types" (77 : Nat) ({ cls := "RegionHouse$Types", name := "push", desc := "(I)V" } : Jvm.MethodName)) ∈ lw_tbl := lw_at lw_m7 64 rfl
theorem qt1751 : (Jvm.Cond.instanceMethod ({ cls := "RegionHouse$Types", name := "push", desc := "(I)V" } : Jvm.MethodName)) ∈ lw_tbl := lw_at lw_m7 66 rfl
theorem qt1752 : (Jvm.Cond.code ({ cls := "RegionHouse$Types", name := "push", desc := "(I)V" } : Jvm.MethodName) prog_13_method_12_code (2 : Nat) (Option.none : Option Jvm.ClassFile.FieldType)) ∈ lw_tbl := lw_at lw_m7 67 rfl
theorem qt1753 : (Jvm.Cond.methodLink "RegionHouse$Typing" (145 : Nat) ({ cls := "RegionHouse$Typing", name := "keep", desc := "(I)V" } : Jvm.MethodName)) ∈ lw_tbl := lw_at lw_m7 68 rfl
theorem qt1755 : (Jvm.Cond.instanceMethod ({ cls := "RegionHouse$Typing", name := "keep", desc := "(I)V" } : Jvm.MethodName)) ∈ lw_tbl := lw_at lw_m7 70 rfl
theorem qt1756 : (Jvm.Cond.code ({ cls := "RegionHouse$Typing", name := "keep", desc := "(I)V" } : Jvm.MethodName) prog_14_method_15_code (2 : Nat) (Option.none : Option Jvm.ClassFile.FieldType)) ∈ lw_tbl := lw_at lw_m7 71 rfl
theorem qt1757 : (Jvm.Cond.methodLink "RegionHouse$Typing" (75 : Nat) ({ cls := "java/util/Arrays", name := "copyOf", desc := "([II)[I" } : Jvm.MethodName)) ∈ lw_tbl := lw_at lw_m7 72 rfl
theorem qt1758 : (Jvm.Cond.methodLink "RegionHouse$Typing" (148 : Nat) ({ cls := "RegionHouse$Typing", name := "region", desc := "(II)I" } : Jvm.MethodName)) ∈ lw_tbl := lw_at lw_m7 73 rfl
theorem qt1759 : (Jvm.Cond.instanceMethod ({ cls := "RegionHouse$Typing", name := "region", desc := "(II)I" } : Jvm.MethodName)) ∈ lw_tbl := lw_at lw_m7 74 rfl
theorem qt1760 : (Jvm.Cond.selects "RegionHouse$Typing" ({ cls := "RegionHouse$Typing", name := "region", desc := "(II)I" } : Jvm.MethodName) ({ cls := "RegionHouse$Typing", name := "region", desc := "(II)I" } : Jvm.MethodName)) ∈ lw_tbl := lw_at lw_m7 75 rfl
theorem qt1761 : (Jvm.Cond.code ({ cls := "RegionHouse$Typing", name := "region", desc := "(II)I" } : Jvm.MethodName) prog_14_method_11_code (3 : Nat) (Option.some Jvm.ClassFile.FieldType.int)) ∈ lw_tbl := lw_at lw_m7 76 rfl
theorem qt1762 : (Jvm.Cond.methodLink "RegionHouse$Typing" (151 : Nat) ({ cls := "RegionHouse$Types", name := "copyAll", desc := "()V" } : Jvm.MethodName)) ∈ lw_tbl := lw_at lw_m7 77 rfl
theorem qt1763 : (Jvm.Cond.instanceMethod ({ cls := "RegionHouse$Types", name := "copyAll", desc := "()V" } : Jvm.MethodName)) ∈ lw_tbl := lw_at lw_m7 78 rfl
theorem qt1764 : (Jvm.Cond.selects "RegionHouse$Types" ({ cls := "RegionHouse$Types", name := "copyAll", desc := "()V" } : Jvm.MethodName) ({ cls := "RegionHouse$Types", name := "copyAll", desc := "()V" } : Jvm.MethodName)) ∈ lw_tbl := lw_at lw_m7 79 rfl
theorem qt1765 : (Jvm.Cond.code ({ cls := "RegionHouse$Types", name := "copyAll", desc := "()V" } : Jvm.MethodName) prog_13_method_31_code (5 : Nat) (Option.none : Option Jvm.ClassFile.FieldType)) ∈ lw_tbl := lw_at lw_m7 80 rfl
theorem qt1766 : (Jvm.Cond.methodLink "RegionHouse$Types" (81 : Nat) ({ cls := "RegionHouse$Types", name := "pop", desc := "()I" } : Jvm.MethodName)) ∈ lw_tbl := lw_at lw_m7 81 rfl
theorem qt1768 : (Jvm.Cond.instanceMethod ({ cls := "RegionHouse$Types", name := "pop", desc := "()I" } : Jvm.MethodName)) ∈ lw_tbl := lw_at lw_m7 83 rfl
theorem qt1769 : (Jvm.Cond.code ({ cls := "RegionHouse$Types", name := "pop", desc := "()I" } : Jvm.MethodName) prog_13_method_13_code (1 : Nat) (Option.some Jvm.ClassFile.FieldType.int)) ∈ lw_tbl := lw_at lw_m7 84 rfl
theorem qt1770 : (Jvm.Cond.methodLink "RegionHouse$Types" (115 : Nat) ({ cls := "RegionHouse$Types", name := "copy", desc := "(I)I" } : Jvm.MethodName)) ∈ lw_tbl := lw_at lw_m7 85 rfl
theorem qt1771 : (Jvm.Cond.methodLink "RegionHouse$Types" (118 : Nat) ({ cls := "RegionHouse$Types", name := "hold", desc := "(II)Z" } : Jvm.MethodName)) ∈ lw_tbl := lw_at lw_m7 86 rfl
theorem qt1772 : (Jvm.Cond.instanceMethod ({ cls := "RegionHouse$Types", name := "hold", desc := "(II)Z" } : Jvm.MethodName)) ∈ lw_tbl := lw_at lw_m7 87 rfl
theorem qt1773 : (Jvm.Cond.selects "RegionHouse$Types" ({ cls := "RegionHouse$Types", name := "hold", desc := "(II)Z" } : Jvm.MethodName) ({ cls := "RegionHouse$Types", name := "hold", desc := "(II)Z" } : Jvm.MethodName)) ∈ lw_tbl := lw_at lw_m7 88 rfl
theorem qt1774 : (Jvm.Cond.code ({ cls := "RegionHouse$Types", name := "hold", desc := "(II)Z" } : Jvm.MethodName) prog_13_method_19_code (4 : Nat) (Option.some Jvm.ClassFile.FieldType.boolean)) ∈ lw_tbl := lw_at lw_m7 89 rfl
theorem qt1775 : (Jvm.Cond.methodLink "RegionHouse$Types" (96 : Nat) ({ cls := "RegionHouse$Types", name := "kind", desc := "(I)I" } : Jvm.MethodName)) ∈ lw_tbl := lw_at lw_m7 90 rfl
theorem qt1776 : (Jvm.Cond.instanceMethod ({ cls := "RegionHouse$Types", name := "kind", desc := "(I)I" } : Jvm.MethodName)) ∈ lw_tbl := lw_at lw_m7 91 rfl
theorem qt1777 : (Jvm.Cond.selects "RegionHouse$Types" ({ cls := "RegionHouse$Types", name := "kind", desc := "(I)I" } : Jvm.MethodName) ({ cls := "RegionHouse$Types", name := "kind", desc := "(I)I" } : Jvm.MethodName)) ∈ lw_tbl := lw_at lw_m7 92 rfl
theorem qt1778 : (Jvm.Cond.code ({ cls := "RegionHouse$Types", name := "kind", desc := "(I)I" } : Jvm.MethodName) prog_13_method_8_code (2 : Nat) (Option.some Jvm.ClassFile.FieldType.int)) ∈ lw_tbl := lw_at lw_m7 93 rfl
theorem qt1779 : (Jvm.Cond.methodLink "RegionHouse$Types" (99 : Nat) ({ cls := "RegionHouse$Types", name := "isHeld", desc := "(II)Z" } : Jvm.MethodName)) ∈ lw_tbl := lw_at lw_m7 94 rfl
theorem qt1780 : (Jvm.Cond.instanceMethod ({ cls := "RegionHouse$Types", name := "isHeld", desc := "(II)Z" } : Jvm.MethodName)) ∈ lw_tbl := lw_at lw_m7 95 rfl
theorem qt1781 : (Jvm.Cond.selects "RegionHouse$Types" ({ cls := "RegionHouse$Types", name := "isHeld", desc := "(II)Z" } : Jvm.MethodName) ({ cls := "RegionHouse$Types", name := "isHeld", desc := "(II)Z" } : Jvm.MethodName)) ∈ lw_tbl := lw_at lw_m7 96 rfl
theorem qt1782 : (Jvm.Cond.code ({ cls := "RegionHouse$Types", name := "isHeld", desc := "(II)Z" } : Jvm.MethodName) prog_13_method_18_code (5 : Nat) (Option.some Jvm.ClassFile.FieldType.boolean)) ∈ lw_tbl := lw_at lw_m7 97 rfl
theorem qt1783 : (Jvm.Cond.methodLink "RegionHouse$Typing" (130 : Nat) ({ cls := "RegionHouse$Typing", name := "own", desc := "(II)I" } : Jvm.MethodName)) ∈ lw_tbl := lw_at lw_m7 98 rfl
theorem qt1785 : (Jvm.Cond.instanceMethod ({ cls := "RegionHouse$Typing", name := "own", desc := "(II)I" } : Jvm.MethodName)) ∈ lw_tbl := lw_at lw_m7 100 rfl
theorem qt1786 : (Jvm.Cond.code ({ cls := "RegionHouse$Typing", name := "own", desc := "(II)I" } : Jvm.MethodName) prog_14_method_18_code (3 : Nat) (Option.some Jvm.ClassFile.FieldType.int)) ∈ lw_tbl := lw_at lw_m7 101 rfl
theorem qt1787 : (Jvm.Cond.methodLink "RegionHouse$Typing" (154 : Nat) ({ cls := "RegionHouse$Types", name := "add", desc := "(III)I" } : Jvm.MethodName)) ∈ lw_tbl := lw_at lw_m7 102 rfl
theorem qt1788 : (Jvm.Cond.methodLink "RegionHouse$Typing" (158 : Nat) ({ cls := "RegionHouse$Typing", name := "called", desc := "(III)I" } : Jvm.MethodName)) ∈ lw_tbl := lw_at lw_m7 103 rfl
theorem qt1790 : (Jvm.Cond.instanceMethod ({ cls := "RegionHouse$Typing", name := "called", desc := "(III)I" } : Jvm.MethodName)) ∈ lw_tbl := lw_at lw_m7 105 rfl
theorem qt1791 : (Jvm.Cond.code ({ cls := "RegionHouse$Typing", name := "called", desc := "(III)I" } : Jvm.MethodName) prog_14_method_17_code (5 : Nat) (Option.some Jvm.ClassFile.FieldType.int)) ∈ lw_tbl := lw_at lw_m7 106 rfl
theorem qt1792 : (Jvm.Cond.methodLink "RegionHouse$Typing" (167 : Nat) ({ cls := "RegionHouse$Types", name := "first", desc := "(I)I" } : Jvm.MethodName)) ∈ lw_tbl := lw_at lw_m7 107 rfl
theorem qt1793 : (Jvm.Cond.instanceMethod ({ cls := "RegionHouse$Types", name := "first", desc := "(I)I" } : Jvm.MethodName)) ∈ lw_tbl := lw_at lw_m7 108 rfl
theorem qt1794 : (Jvm.Cond.selects "RegionHouse$Types" ({ cls := "RegionHouse$Types", name := "first", desc := "(I)I" } : Jvm.MethodName) ({ cls := "RegionHouse$Types", name := "first", desc := "(I)I" } : Jvm.MethodName)) ∈ lw_tbl := lw_at lw_m7 109 rfl
theorem qt1795 : (Jvm.Cond.code ({ cls := "RegionHouse$Types", name := "first", desc := "(I)I" } : Jvm.MethodName) prog_13_method_9_code (2 : Nat) (Option.some Jvm.ClassFile.FieldType.int)) ∈ lw_tbl := lw_at lw_m7 110 rfl
theorem qt1796 : (Jvm.Cond.methodLink "RegionHouse$Typing" (170 : Nat) ({ cls := "RegionHouse$Types", name := "second", desc := "(I)I" } : Jvm.MethodName)) ∈ lw_tbl := lw_at lw_m7 111 rfl
theorem qt1797 : (Jvm.Cond.instanceMethod ({ cls := "RegionHouse$Types", name := "second", desc := "(I)I" } : Jvm.MethodName)) ∈ lw_tbl := lw_at lw_m7 112 rfl
theorem qt1798 : (Jvm.Cond.selects "RegionHouse$Types" ({ cls := "RegionHouse$Types", name := "second", desc := "(I)I" } : Jvm.MethodName) ({ cls := "RegionHouse$Types", name := "second", desc := "(I)I" } : Jvm.MethodName)) ∈ lw_tbl := lw_at lw_m7 113 rfl
theorem qt1799 : (Jvm.Cond.code ({ cls := "RegionHouse$Types", name := "second", desc := "(I)I" } : Jvm.MethodName) prog_13_method_10_code (2 : Nat) (Option.some Jvm.ClassFile.FieldType.int)) ∈ lw_tbl := lw_at lw_m7 114 rfl
theorem qt1800 : (Jvm.Cond.methodLink "RegionHouse$Typing" (173 : Nat) ({ cls := "RegionHouse$Types", name := "number", desc := "()I" } : Jvm.MethodName)) ∈ lw_tbl := lw_at lw_m7 115 rfl
theorem qt1801 : (Jvm.Cond.instanceMethod ({ cls := "RegionHouse$Types", name := "number", desc := "()I" } : Jvm.MethodName)) ∈ lw_tbl := lw_at lw_m7 116 rfl
theorem qt1802 : (Jvm.Cond.selects "RegionHouse$Types" ({ cls := "RegionHouse$Types", name := "number", desc := "()I" } : Jvm.MethodName) ({ cls := "RegionHouse$Types", name := "number", desc := "()I" } : Jvm.MethodName)) ∈ lw_tbl := lw_at lw_m7 117 rfl
theorem qt1803 : (Jvm.Cond.code ({ cls := "RegionHouse$Types", name := "number", desc := "()I" } : Jvm.MethodName) prog_13_method_6_code (1 : Nat) (Option.some Jvm.ClassFile.FieldType.int)) ∈ lw_tbl := lw_at lw_m7 118 rfl
theorem qt1804 : (Jvm.Cond.methodLink "RegionHouse$Typing" (134 : Nat) ({ cls := "RegionHouse$Typing", name := "place", desc := "(II)V" } : Jvm.MethodName)) ∈ lw_tbl := lw_at lw_m7 119 rfl
theorem qt1806 : (Jvm.Cond.instanceMethod ({ cls := "RegionHouse$Typing", name := "place", desc := "(II)V" } : Jvm.MethodName)) ∈ lw_tbl := lw_at lw_m7 121 rfl
theorem qt1807 : (Jvm.Cond.code ({ cls := "RegionHouse$Typing", name := "place", desc := "(II)V" } : Jvm.MethodName) prog_14_method_19_code (6 : Nat) (Option.none : Option Jvm.ClassFile.FieldType)) ∈ lw_tbl := lw_at lw_m7 122 rfl
theorem qt1808 : (Jvm.Cond.methodLink "RegionHouse$Typing" (182 : Nat) ({ cls := "RegionHouse$Typing", name := "wants", desc := "(II)V" } : Jvm.MethodName)) ∈ lw_tbl := lw_at lw_m7 123 rfl
theorem qt1810 : (Jvm.Cond.instanceMethod ({ cls := "RegionHouse$Typing", name := "wants", desc := "(II)V" } : Jvm.MethodName)) ∈ lw_tbl := lw_at lw_m7 125 rfl
theorem qt1811 : (Jvm.Cond.code ({ cls := "RegionHouse$Typing", name := "wants", desc := "(II)V" } : Jvm.MethodName) prog_14_method_13_code (3 : Nat) (Option.none : Option Jvm.ClassFile.FieldType)) ∈ lw_tbl := lw_at lw_m7 126 rfl
theorem qt1812 : (Jvm.Cond.methodLink "RegionHouse$Typing" (96 : Nat) ({ cls := "RegionHouse$Types", name := "alike", desc := "(II)Z" } : Jvm.MethodName)) ∈ lw_tbl := lw_at lw_m7 127 rfl
theorem qt1813 : (Jvm.Cond.instanceMethod ({ cls := "RegionHouse$Types", name := "alike", desc := "(II)Z" } : Jvm.MethodName)) ∈ lw_tbl := lw_at lw_m7 128 rfl
theorem qt1814 : (Jvm.Cond.selects "RegionHouse$Types" ({ cls := "RegionHouse$Types", name := "alike", desc := "(II)Z" } : Jvm.MethodName) ({ cls := "RegionHouse$Types", name := "alike", desc := "(II)Z" } : Jvm.MethodName)) ∈ lw_tbl := lw_at lw_m7 129 rfl
theorem qt1815 : (Jvm.Cond.code ({ cls := "RegionHouse$Types", name := "alike", desc := "(II)Z" } : Jvm.MethodName) prog_13_method_15_code (7 : Nat) (Option.some Jvm.ClassFile.FieldType.boolean)) ∈ lw_tbl := lw_at lw_m7 130 rfl
theorem qt1816 : (Jvm.Cond.methodLink "RegionHouse$Types" (85 : Nat) ({ cls := "RegionHouse$Types", name := "joinHolds", desc := "(II)V" } : Jvm.MethodName)) ∈ lw_tbl := lw_at lw_m7 131 rfl
theorem qt1818 : (Jvm.Cond.instanceMethod ({ cls := "RegionHouse$Types", name := "joinHolds", desc := "(II)V" } : Jvm.MethodName)) ∈ lw_tbl := lw_at lw_m7 133 rfl
theorem qt1819 : (Jvm.Cond.code ({ cls := "RegionHouse$Types", name := "joinHolds", desc := "(II)V" } : Jvm.MethodName) prog_13_method_16_code (3 : Nat) (Option.none : Option Jvm.ClassFile.FieldType)) ∈ lw_tbl := lw_at lw_m7 134 rfl
theorem qt1820 : (Jvm.Cond.methodLink "RegionHouse$Types" (89 : Nat) ({ cls := "RegionHouse$Types", name := "isRound", desc := "(I)Z" } : Jvm.MethodName)) ∈ lw_tbl := lw_at lw_m7 135 rfl
theorem qt1822 : (Jvm.Cond.instanceMethod ({ cls := "RegionHouse$Types", name := "isRound", desc := "(I)Z" } : Jvm.MethodName)) ∈ lw_tbl := lw_at lw_m7 137 rfl
theorem qt1823 : (Jvm.Cond.code ({ cls := "RegionHouse$Types", name := "isRound", desc := "(I)Z" } : Jvm.MethodName) prog_13_method_17_code (3 : Nat) (Option.some Jvm.ClassFile.FieldType.boolean)) ∈ lw_tbl := lw_at lw_m7 138 rfl
theorem qt1824 : (Jvm.Cond.methodLink "RegionHouse$Types" (93 : Nat) ({ cls := "RegionHouse$Types", name := "pushParts", desc := "(I)V" } : Jvm.MethodName)) ∈ lw_tbl := lw_at lw_m7 139 rfl
theorem qt1826 : (Jvm.Cond.instanceMethod ({ cls := "RegionHouse$Types", name := "pushParts", desc := "(I)V" } : Jvm.MethodName)) ∈ lw_tbl := lw_at lw_m7 141 rfl
theorem qt1827 : (Jvm.Cond.code ({ cls := "RegionHouse$Types", name := "pushParts", desc := "(I)V" } : Jvm.MethodName) prog_13_method_14_code (2 : Nat) (Option.none : Option Jvm.ClassFile.FieldType)) ∈ lw_tbl := lw_at lw_m7 142 rfl
theorem qt1828 : (Jvm.Cond.methodLink "RegionHouse$Typing" (100 : Nat) ({ cls := "RegionHouse$Typing", name := "must", desc := "(ZI)V" } : Jvm.MethodName)) ∈ lw_tbl := lw_at lw_m7 143 rfl
theorem qt1830 : (Jvm.Cond.instanceMethod ({ cls := "RegionHouse$Typing", name := "must", desc := "(ZI)V" } : Jvm.MethodName)) ∈ lw_tbl := lw_at lw_m7 145 rfl
theorem qt1831 : (Jvm.Cond.code ({ cls := "RegionHouse$Typing", name := "must", desc := "(ZI)V" } : Jvm.MethodName) prog_14_method_12_code (3 : Nat) (Option.none : Option Jvm.ClassFile.FieldType)) ∈ lw_tbl := lw_at lw_m7 146 rfl
theorem qt1832 : (Jvm.Cond.methodLink "RegionHouse$Typing" (84 : Nat) ({ cls := "RegionHouse$Lexemes", name := "start", desc := "(I)I" } : Jvm.MethodName)) ∈ lw_tbl := lw_at lw_m7 147 rfl
theorem qt1833 : (Jvm.Cond.methodLink "RegionHouse$Typing" (90 : Nat) ({ cls := "RegionHouse$Fault", name := "fail", desc := "(II)V" } : Jvm.MethodName)) ∈ lw_tbl := lw_at lw_m7 148 rfl
theorem qt1834 : (Jvm.Cond.methodLink "RegionHouse$Typing" (185 : Nat) ({ cls := "RegionHouse$Typing", name := "order", desc := "(I)I" } : Jvm.MethodName)) ∈ lw_tbl := lw_at lw_m7 149 rfl
theorem qt1836 : (Jvm.Cond.instanceMethod ({ cls := "RegionHouse$Typing", name := "order", desc := "(I)I" } : Jvm.MethodName)) ∈ lw_tbl := lw_at lw_m7 151 rfl
theorem qt1837 : (Jvm.Cond.code ({ cls := "RegionHouse$Typing", name := "order", desc := "(I)I" } : Jvm.MethodName) prog_14_method_20_code (4 : Nat) (Option.some Jvm.ClassFile.FieldType.int)) ∈ lw_tbl := lw_at lw_m7 152 rfl
theorem qt1838 : (Jvm.Cond.methodLink "RegionHouse" (159 : Nat) ({ cls := "RegionHouse$Regions", name := "find", desc := "(I)V" } : Jvm.MethodName)) ∈ lw_tbl := lw_at lw_m7 153 rfl
theorem qt1839 : (Jvm.Cond.instanceMethod ({ cls := "RegionHouse$Regions", name := "find", desc := "(I)V" } : Jvm.MethodName)) ∈ lw_tbl := lw_at lw_m7 154 rfl
theorem qt1840 : (Jvm.Cond.selects "RegionHouse$Regions" ({ cls := "RegionHouse$Regions", name := "find", desc := "(I)V" } : Jvm.MethodName) ({ cls := "RegionHouse$Regions", name := "find", desc := "(I)V" } : Jvm.MethodName)) ∈ lw_tbl := lw_at lw_m7 155 rfl
theorem qt1841 : (Jvm.Cond.code ({ cls := "RegionHouse$Regions", name := "find", desc := "(I)V" } : Jvm.MethodName) prog_10_method_10_code (6 : Nat) (Option.none : Option Jvm.ClassFile.FieldType)) ∈ lw_tbl := lw_at lw_m7 156 rfl
theorem qt1842 : (Jvm.Cond.methodLink "RegionHouse$Regions" (125 : Nat) ({ cls := "RegionHouse$Regions", name := "puts", desc := "(II)V" } : Jvm.MethodName)) ∈ lw_tbl := lw_at lw_m7 157 rfl
theorem qt1844 : (Jvm.Cond.instanceMethod ({ cls := "RegionHouse$Regions", name := "puts", desc := "(II)V" } : Jvm.MethodName)) ∈ lw_tbl := lw_at lw_m7 159 rfl
theorem qt1845 : (Jvm.Cond.code ({ cls := "RegionHouse$Regions", name := "puts", desc := "(II)V" } : Jvm.MethodName) prog_10_method_12_code (5 : Nat) (Option.none : Option Jvm.ClassFile.FieldType)) ∈ lw_tbl := lw_at lw_m7 160 rfl
theorem qt1846 : (Jvm.Cond.methodLink "RegionHouse$Regions" (178 : Nat) ({ cls := "RegionHouse$Typing", name := "type", desc := "(I)I" } : Jvm.MethodName)) ∈ lw_tbl := lw_at lw_m7 161 rfl
theorem qt1847 : (Jvm.Cond.instanceMethod ({ cls := "RegionHouse$Typing", name := "type", desc := "(I)I" } : Jvm.MethodName)) ∈ lw_tbl := lw_at lw_m7 162 rfl
theorem qt1848 : (Jvm.Cond.selects "RegionHouse$Typing" ({ cls := "RegionHouse$Typing", name := "type", desc := "(I)I" } : Jvm.MethodName) ({ cls := "RegionHouse$Typing", name := "type", desc := "(I)I" } : Jvm.MethodName)) ∈ lw_tbl := lw_at lw_m7 163 rfl
theorem qt1849 : (Jvm.Cond.code ({ cls := "RegionHouse$Typing", name := "type", desc := "(I)I" } : Jvm.MethodName) prog_14_method_3_code (2 : Nat) (Option.some Jvm.ClassFile.FieldType.int)) ∈ lw_tbl := lw_at lw_m7 164 rfl
theorem qt1850 : (Jvm.Cond.methodLink "RegionHouse$Regions" (181 : Nat) ({ cls := "RegionHouse$Regions", name := "put", desc := "(I)V" } : Jvm.MethodName)) ∈ lw_tbl := lw_at lw_m7 165 rfl
theorem qt1852 : (Jvm.Cond.instanceMethod ({ cls := "RegionHouse$Regions", name := "put", desc := "(I)V" } : Jvm.MethodName)) ∈ lw_tbl := lw_at lw_m7 167 rfl
theorem qt1853 : (Jvm.Cond.code ({ cls := "RegionHouse$Regions", name := "put", desc := "(I)V" } : Jvm.MethodName) prog_10_method_11_code (2 : Nat) (Option.none : Option Jvm.ClassFile.FieldType)) ∈ lw_tbl := lw_at lw_m7 168 rfl
theorem qt1854 : (Jvm.Cond.methodLink "RegionHouse$Regions" (172 : Nat) ({ cls := "java/util/Arrays", name := "copyOf", desc := "([II)[I" } : Jvm.MethodName)) ∈ lw_tbl := lw_at lw_m7 169 rfl
theorem qt1855 : (Jvm.Cond.methodLink "RegionHouse$Regions" (183 : Nat) ({ cls := "RegionHouse$Typing", name := "regions", desc := "(I)I" } : Jvm.MethodName)) ∈ lw_tbl := lw_at lw_m7 170 rfl
theorem qt1856 : (Jvm.Cond.instanceMethod ({ cls := "RegionHouse$Typing", name := "regions", desc := "(I)I" } : Jvm.MethodName)) ∈ lw_tbl := lw_at lw_m7 171 rfl
theorem qt1857 : (Jvm.Cond.selects "RegionHouse$Typing" ({ cls := "RegionHouse$Typing", name := "regions", desc := "(I)I" } : Jvm.MethodName) ({ cls := "RegionHouse$Typing", name := "regions", desc := "(I)I" } : Jvm.MethodName)) ∈ lw_tbl := lw_at lw_m7 172 rfl
theorem qt1858 : (Jvm.Cond.code ({ cls := "RegionHouse$Typing", name := "regions", desc := "(I)I" } : Jvm.MethodName) prog_14_method_8_code (2 : Nat) (Option.some Jvm.ClassFile.FieldType.int)) ∈ lw_tbl := lw_at lw_m7 173 rfl
theorem qt1859 : (Jvm.Cond.methodLink "RegionHouse$Regions" (185 : Nat) ({ cls := "RegionHouse$Typing", name := "handed", desc := "(II)I" } : Jvm.MethodName)) ∈ lw_tbl := lw_at lw_m7 174 rfl
theorem qt1860 : (Jvm.Cond.instanceMethod ({ cls := "RegionHouse$Typing", name := "handed", desc := "(II)I" } : Jvm.MethodName)) ∈ lw_tbl := lw_at lw_m7 175 rfl
theorem qt1861 : (Jvm.Cond.selects "RegionHouse$Typing" ({ cls := "RegionHouse$Typing", name := "handed", desc := "(II)I" } : Jvm.MethodName) ({ cls := "RegionHouse$Typing", name := "handed", desc := "(II)I" } : Jvm.MethodName)) ∈ lw_tbl := lw_at lw_m7 176 rfl
theorem qt1862 : (Jvm.Cond.code ({ cls := "RegionHouse$Typing", name := "handed", desc := "(II)I" } : Jvm.MethodName) prog_14_method_7_code (3 : Nat) (Option.some Jvm.ClassFile.FieldType.int)) ∈ lw_tbl := lw_at lw_m7 177 rfl
theorem qt1863 : (Jvm.Cond.methodLink "RegionHouse$Regions" (128 : Nat) ({ cls := "RegionHouse$Regions", name := "numbers", desc := "(II)V" } : Jvm.MethodName)) ∈ lw_tbl := lw_at lw_m7 178 rfl
theorem qt1865 : (Jvm.Cond.instanceMethod ({ cls := "RegionHouse$Regions", name := "numbers", desc := "(II)V" } : Jvm.MethodName)) ∈ lw_tbl := lw_at lw_m7 180 rfl
theorem qt1866 : (Jvm.Cond.code ({ cls := "RegionHouse$Regions", name := "numbers", desc := "(II)V" } : Jvm.MethodName) prog_10_method_16_code (4 : Nat) (Option.none : Option Jvm.ClassFile.FieldType)) ∈ lw_tbl := lw_at lw_m7 181 rfl
theorem qt1867 : (Jvm.Cond.methodLink "RegionHouse$Regions" (229 : Nat) ({ cls := "RegionHouse$Regions", name := "number", desc := "(II)I" } : Jvm.MethodName)) ∈ lw_tbl := lw_at lw_m7 182 rfl
theorem qt1868 : (Jvm.Cond.instanceMethod ({ cls := "RegionHouse$Regions", name := "number", desc := "(II)I" } : Jvm.MethodName)) ∈ lw_tbl := lw_at lw_m7 183 rfl
theorem qt1869 : (Jvm.Cond.selects "RegionHouse$Regions" ({ cls := "RegionHouse$Regions", name := "number", desc := "(II)I" } : Jvm.MethodName) ({ cls := "RegionHouse$Regions", name := "number", desc := "(II)I" } : Jvm.MethodName)) ∈ lw_tbl := lw_at lw_m7 184 rfl
theorem qt1870 : (Jvm.Cond.code ({ cls := "RegionHouse$Regions", name := "number", desc := "(II)I" } : Jvm.MethodName) prog_10_method_6_code (5 : Nat) (Option.some Jvm.ClassFile.FieldType.int)) ∈ lw_tbl := lw_at lw_m7 185 rfl
theorem qt1871 : (Jvm.Cond.methodLink "RegionHouse$Regions" (81 : Nat) ({ cls := "RegionHouse$Types", name := "find", desc := "(I)I" } : Jvm.MethodName)) ∈ lw_tbl := lw_at lw_m7 186 rfl
theorem qt1872 : (Jvm.Cond.methodLink "RegionHouse$Regions" (87 : Nat) ({ cls := "RegionHouse$Regions", name := "box", desc := "(II)I" } : Jvm.MethodName)) ∈ lw_tbl := lw_at lw_m7 187 rfl
theorem qt1873 : (Jvm.Cond.instanceMethod ({ cls := "RegionHouse$Regions", name := "box", desc := "(II)I" } : Jvm.MethodName)) ∈ lw_tbl := lw_at lw_m7 188 rfl
theorem qt1874 : (Jvm.Cond.selects "RegionHouse$Regions" ({ cls := "RegionHouse$Regions", name := "box", desc := "(II)I" } : Jvm.MethodName) ({ cls := "RegionHouse$Regions", name := "box", desc := "(II)I" } : Jvm.MethodName)) ∈ lw_tbl := lw_at lw_m7 189 rfl
theorem qt1875 : (Jvm.Cond.code ({ cls := "RegionHouse$Regions", name := "box", desc := "(II)I" } : Jvm.MethodName) prog_10_method_4_code (3 : Nat) (Option.some Jvm.ClassFile.FieldType.int)) ∈ lw_tbl := lw_at lw_m7 190 rfl
theorem qt1876 : (Jvm.Cond.methodLink "RegionHouse$Regions" (134 : Nat) ({ cls := "RegionHouse$Lexemes", name := "start", desc := "(I)I" } : Jvm.MethodName)) ∈ lw_tbl := lw_at lw_m7 191 rfl
theorem qt1877 : (Jvm.Cond.methodLink "RegionHouse$Regions" (139 : Nat) ({ cls := "RegionHouse$Fault", name := "fail", desc := "(II)V" } : Jvm.MethodName)) ∈ lw_tbl := lw_at lw_m7 192 rfl
theorem qt1878 : (Jvm.Cond.methodLink "RegionHouse$Regions" (144 : Nat) ({ cls := "RegionHouse$Regions", name := "captures", desc := "(I)V" } : Jvm.MethodName)) ∈ lw_tbl := lw_at lw_m7 193 rfl
theorem qt1880 : (Jvm.Cond.instanceMethod ({ cls := "RegionHouse$Regions", name := "captures", desc := "(I)V" } : Jvm.MethodName)) ∈ lw_tbl := lw_at lw_m7 195 rfl
theorem qt1881 : (Jvm.Cond.code ({ cls := "RegionHouse$Regions", name := "captures", desc := "(I)V" } : Jvm.MethodName) prog_10_method_13_code (4 : Nat) (Option.none : Option Jvm.ClassFile.FieldType)) ∈ lw_tbl := lw_at lw_m7 196 rfl
theorem qt1882 : (Jvm.Cond.methodLink "RegionHouse$Regions" (203 : Nat) ({ cls := "RegionHouse$Typing", name := "variable", desc := "(I)I" } : Jvm.MethodName)) ∈ lw_tbl := lw_at lw_m7 197 rfl
theorem qt1883 : (Jvm.Cond.instanceMethod ({ cls := "RegionHouse$Typing", name := "variable", desc := "(I)I" } : Jvm.MethodName)) ∈ lw_tbl := lw_at lw_m7 198 rfl
theorem qt1884 : (Jvm.Cond.selects "RegionHouse$Typing" ({ cls := "RegionHouse$Typing", name := "variable", desc := "(I)I" } : Jvm.MethodName) ({ cls := "RegionHouse$Typing", name := "variable", desc := "(I)I" } : Jvm.MethodName)) ∈ lw_tbl := lw_at lw_m7 199 rfl
theorem qt1885 : (Jvm.Cond.code ({ cls := "RegionHouse$Typing", name := "variable", desc := "(I)I" } : Jvm.MethodName) prog_14_method_4_code (2 : Nat) (Option.some Jvm.ClassFile.FieldType.int)) ∈ lw_tbl := lw_at lw_m7 200 rfl
theorem qt1886 : (Jvm.Cond.methodLink "RegionHouse$Regions" (206 : Nat) ({ cls := "RegionHouse$Types", name := "hold", desc := "(II)Z" } : Jvm.MethodName)) ∈ lw_tbl := lw_at lw_m7 201 rfl
theorem qt1887 : (Jvm.Cond.methodLink "RegionHouse$Regions" (148 : Nat) ({ cls := "RegionHouse$Regions", name := "owns", desc := "(II)V" } : Jvm.MethodName)) ∈ lw_tbl := lw_at lw_m7 202 rfl
theorem qt1889 : (Jvm.Cond.instanceMethod ({ cls := "RegionHouse$Regions", name := "owns", desc := "(II)V" } : Jvm.MethodName)) ∈ lw_tbl := lw_at lw_m7 204 rfl
theorem qt1890 : (Jvm.Cond.code ({ cls := "RegionHouse$Regions", name := "owns", desc := "(II)V" } : Jvm.MethodName) prog_10_method_14_code (7 : Nat) (Option.none : Option Jvm.ClassFile.FieldType)) ∈ lw_tbl := lw_at lw_m7 205 rfl
theorem qt1891 : (Jvm.Cond.methodLink "RegionHouse$Regions" (91 : Nat) ({ cls := "RegionHouse$Types", name := "begin", desc := "()V" } : Jvm.MethodName)) ∈ lw_tbl := lw_at lw_m7 206 rfl
theorem qt1892 : (Jvm.Cond.instanceMethod ({ cls := "RegionHouse$Types", name := "begin", desc := "()V" } : Jvm.MethodName)) ∈ lw_tbl := lw_at lw_m7 207 rfl
theorem qt1893 : (Jvm.Cond.selects "RegionHouse$Types" ({ cls := "RegionHouse$Types", name := "begin", desc := "()V" } : Jvm.MethodName) ({ cls := "RegionHouse$Types", name := "begin", desc := "()V" } : Jvm.MethodName)) ∈ lw_tbl := lw_at lw_m7 208 rfl
theorem qt1894 : (Jvm.Cond.code ({ cls := "RegionHouse$Types", name := "begin", desc := "()V" } : Jvm.MethodName) prog_13_method_20_code (1 : Nat) (Option.none : Option Jvm.ClassFile.FieldType)) ∈ lw_tbl := lw_at lw_m7 209 rfl
theorem qt1895 : (Jvm.Cond.constant "RegionHouse$Regions" (215 : Nat) (1000000 : Int32)) ∈ lw_tbl := lw_at lw_m7 210 rfl
theorem qt1896 : (Jvm.Cond.methodLink "RegionHouse$Regions" (102 : Nat) ({ cls := "RegionHouse$Types", name := "reach", desc := "(II)V" } : Jvm.MethodName)) ∈ lw_tbl := lw_at lw_m7 211 rfl
theorem qt1897 : (Jvm.Cond.instanceMethod ({ cls := "RegionHouse$Types", name := "reach", desc := "(II)V" } : Jvm.MethodName)) ∈ lw_tbl := lw_at lw_m7 212 rfl
theorem qt1898 : (Jvm.Cond.selects "RegionHouse$Types" ({ cls := "RegionHouse$Types", name := "reach", desc := "(II)V" } : Jvm.MethodName) ({ cls := "RegionHouse$Types", name := "reach", desc := "(II)V" } : Jvm.MethodName)) ∈ lw_tbl := lw_at lw_m7 213 rfl
theorem qt1899 : (Jvm.Cond.code ({ cls := "RegionHouse$Types", name := "reach", desc := "(II)V" } : Jvm.MethodName) prog_13_method_21_code (5 : Nat) (Option.none : Option Jvm.ClassFile.FieldType)) ∈ lw_tbl := lw_at lw_m7 214 rfl
theorem qt1900 : (Jvm.Cond.methodLink "RegionHouse$Regions" (106 : Nat) ({ cls := "RegionHouse$Typing", name := "result", desc := "(I)I" } : Jvm.MethodName)) ∈ lw_tbl := lw_at lw_m7 215 rfl
theorem qt1901 : (Jvm.Cond.instanceMethod ({ cls := "RegionHouse$Typing", name := "result", desc := "(I)I" } : Jvm.MethodName)) ∈ lw_tbl := lw_at lw_m7 216 rfl
theorem qt1902 : (Jvm.Cond.selects "RegionHouse$Typing" ({ cls := "RegionHouse$Typing", name := "result", desc := "(I)I" } : Jvm.MethodName) ({ cls := "RegionHouse$Typing", name := "result", desc := "(I)I" } : Jvm.MethodName)) ∈ lw_tbl := lw_at lw_m7 217 rfl
theorem qt1903 : (Jvm.Cond.code ({ cls := "RegionHouse$Typing", name := "result", desc := "(I)I" } : Jvm.MethodName) prog_14_method_5_code (2 : Nat) (Option.some Jvm.ClassFile.FieldType.int)) ∈ lw_tbl := lw_at lw_m7 218 rfl
theorem qt1904 : (Jvm.Cond.methodLink "RegionHouse$Regions" (222 : Nat) ({ cls := "RegionHouse$Types", name := "isReached", desc := "(I)Z" } : Jvm.MethodName)) ∈ lw_tbl := lw_at lw_m7 219 rfl
theorem qt1905 : (Jvm.Cond.instanceMethod ({ cls := "RegionHouse$Types", name := "isReached", desc := "(I)Z" } : Jvm.MethodName)) ∈ lw_tbl := lw_at lw_m7 220 rfl
theorem qt1906 : (Jvm.Cond.selects "RegionHouse$Types" ({ cls := "RegionHouse$Types", name := "isReached", desc := "(I)Z" } : Jvm.MethodName) ({ cls := "RegionHouse$Types", name := "isReached", desc := "(I)Z" } : Jvm.MethodName)) ∈ lw_tbl := lw_at lw_m7 221 rfl
theorem qt1907 : (Jvm.Cond.code ({ cls := "RegionHouse$Types", name := "isReached", desc := "(I)Z" } : Jvm.MethodName) prog_13_method_28_code (2 : Nat) (Option.some Jvm.ClassFile.FieldType.boolean)) ∈ lw_tbl := lw_at lw_m7 222 rfl
theorem qt1908 : (Jvm.Cond.methodLink "RegionHouse$Regions" (151 : Nat) ({ cls := "RegionHouse$Regions", name := "holds", desc := "(II)Z" } : Jvm.MethodName)) ∈ lw_tbl := lw_at lw_m7 223 rfl
theorem qt1910 : (Jvm.Cond.instanceMethod ({ cls := "RegionHouse$Regions", name := "holds", desc := "(II)Z" } : Jvm.MethodName)) ∈ lw_tbl := lw_at lw_m7 225 rfl
theorem qt1911 : (Jvm.Cond.code ({ cls := "RegionHouse$Regions", name := "holds", desc := "(II)Z" } : Jvm.MethodName) prog_10_method_15_code (9 : Nat) (Option.some Jvm.ClassFile.FieldType.boolean)) ∈ lw_tbl := lw_at lw_m7 226 rfl
theorem qt1912 : (Jvm.Cond.methodLink "RegionHouse$Regions" (155 : Nat) ({ cls := "RegionHouse$Regions", name := "settle", desc := "(II)V" } : Jvm.MethodName)) ∈ lw_tbl := lw_at lw_m7 227 rfl
theorem qt1914 : (Jvm.Cond.instanceMethod ({ cls := "RegionHouse$Regions", name := "settle", desc := "(II)V" } : Jvm.MethodName)) ∈ lw_tbl := lw_at lw_m7 229 rfl
theorem qt1915 : (Jvm.Cond.code ({ cls := "RegionHouse$Regions", name := "settle", desc := "(II)V" } : Jvm.MethodName) prog_10_method_17_code (4 : Nat) (Option.none : Option Jvm.ClassFile.FieldType)) ∈ lw_tbl := lw_at lw_m7 230 rfl
theorem qt1916 : (Jvm.Cond.methodLink "RegionHouse$Regions" (158 : Nat) ({ cls := "RegionHouse$Regions", name := "keeps", desc := "(I)V" } : Jvm.MethodName)) ∈ lw_tbl := lw_at lw_m7 231 rfl
theorem qt1918 : (Jvm.Cond.instanceMethod ({ cls := "RegionHouse$Regions", name := "keeps", desc := "(I)V" } : Jvm.MethodName)) ∈ lw_tbl := lw_at lw_m7 233 rfl
theorem qt1919 : (Jvm.Cond.code ({ cls := "RegionHouse$Regions", name := "keeps", desc := "(I)V" } : Jvm.MethodName) prog_10_method_18_code (7 : Nat) (Option.none : Option Jvm.ClassFile.FieldType)) ∈ lw_tbl := lw_at lw_m7 234 rfl
theorem qt1920 : (Jvm.Cond.methodLink "RegionHouse$Regions" (163 : Nat) ({ cls := "RegionHouse$Regions", name := "owner", desc := "(II)I" } : Jvm.MethodName)) ∈ lw_tbl := lw_at lw_m7 235 rfl
theorem qt1921 : (Jvm.Cond.instanceMethod ({ cls := "RegionHouse$Regions", name := "owner", desc := "(II)I" } : Jvm.MethodName)) ∈ lw_tbl := lw_at lw_m7 236 rfl
theorem qt1922 : (Jvm.Cond.selects "RegionHouse$Regions" ({ cls := "RegionHouse$Regions", name := "owner", desc := "(II)I" } : Jvm.MethodName) ({ cls := "RegionHouse$Regions", name := "owner", desc := "(II)I" } : Jvm.MethodName)) ∈ lw_tbl := lw_at lw_m7 237 rfl
theorem qt1923 : (Jvm.Cond.code ({ cls := "RegionHouse$Regions", name := "owner", desc := "(II)I" } : Jvm.MethodName) prog_10_method_5_code (3 : Nat) (Option.some Jvm.ClassFile.FieldType.int)) ∈ lw_tbl := lw_at lw_m7 238 rfl
theorem qt1924 : (Jvm.Cond.methodLink "RegionHouse$Regions" (232 : Nat) ({ cls := "RegionHouse$Regions", name := "keep", desc := "(II)V" } : Jvm.MethodName)) ∈ lw_tbl := lw_at lw_m7 239 rfl
theorem qt1926 : (Jvm.Cond.instanceMethod ({ cls := "RegionHouse$Regions", name := "keep", desc := "(II)V" } : Jvm.MethodName)) ∈ lw_tbl := lw_at lw_m8 1 rfl
theorem qt1927 : (Jvm.Cond.code ({ cls := "RegionHouse$Regions", name := "keep", desc := "(II)V" } : Jvm.MethodName) prog_10_method_19_code (3 : Nat) (Option.none : Option Jvm.ClassFile.FieldType)) ∈ lw_tbl := lw_at lw_m8 2 rfl
theorem qt1928 : (Jvm.Cond.methodLink "RegionHouse$Regions" (160 : Nat) ({ cls := "RegionHouse$Typing", name := "beginRegions", desc := "(I)V" } : Jvm.MethodName)) ∈ lw_tbl := lw_at lw_m8 3 rfl
theorem qt1929 : (Jvm.Cond.instanceMethod ({ cls := "RegionHouse$Typing", name := "beginRegions", desc := "(I)V" } : Jvm.MethodName)) ∈ lw_tbl := lw_at lw_m8 4 rfl
theorem qt1930 : (Jvm.Cond.selects "RegionHouse$Typing" ({ cls := "RegionHouse$Typing", name := "beginRegions", desc := "(I)V" } : Jvm.MethodName) ({ cls := "RegionHouse$Typing", name := "beginRegions", desc := "(I)V" } : Jvm.MethodName)) ∈ lw_tbl := lw_at lw_m8 5 rfl
theorem qt1931 : (Jvm.Cond.code ({ cls := "RegionHouse$Typing", name := "beginRegions", desc := "(I)V" } : Jvm.MethodName) prog_14_method_9_code (2 : Nat) (Option.none : Option Jvm.ClassFile.FieldType)) ∈ lw_tbl := lw_at lw_m8 6 rfl
theorem qt1932 : (Jvm.Cond.methodLink "RegionHouse$Regions" (166 : Nat) ({ cls := "RegionHouse$Typing", name := "addRegion", desc := "(II)V" } : Jvm.MethodName)) ∈ lw_tbl := lw_at lw_m8 7 rfl
theorem qt1933 : (Jvm.Cond.instanceMethod ({ cls := "RegionHouse$Typing", name := "addRegion", desc := "(II)V" } : Jvm.MethodName)) ∈ lw_tbl := lw_at lw_m8 8 rfl
theorem qt1934 : (Jvm.Cond.selects "RegionHouse$Typing" ({ cls := "RegionHouse$Typing", name := "addRegion", desc := "(II)V" } : Jvm.MethodName) ({ cls := "RegionHouse$Typing", name := "addRegion", desc := "(II)V" } : Jvm.MethodName)) ∈ lw_tbl := lw_at lw_m8 9 rfl
theorem qt1935 : (Jvm.Cond.code ({ cls := "RegionHouse$Typing", name := "addRegion", desc := "(II)V" } : Jvm.MethodName) prog_14_method_10_code (3 : Nat) (Option.none : Option Jvm.ClassFile.FieldType)) ∈ lw_tbl := lw_at lw_m8 10 rfl
theorem qt1936 : (Jvm.Cond.methodLink "RegionHouse$Regions" (169 : Nat) ({ cls := "RegionHouse$Regions", name := "check", desc := "(I)V" } : Jvm.MethodName)) ∈ lw_tbl := lw_at lw_m8 11 rfl
theorem qt1938 : (Jvm.Cond.instanceMethod ({ cls := "RegionHouse$Regions", name := "check", desc := "(I)V" } : Jvm.MethodName)) ∈ lw_tbl := lw_at lw_m8 13 rfl
theorem qt1939 : (Jvm.Cond.code ({ cls := "RegionHouse$Regions", name := "check", desc := "(I)V" } : Jvm.MethodName) prog_10_method_22_code (5 : Nat) (Option.none : Option Jvm.ClassFile.FieldType)) ∈ lw_tbl := lw_at lw_m8 14 rfl
theorem qt1940 : (Jvm.Cond.methodLink "RegionHouse$Regions" (250 : Nat) ({ cls := "RegionHouse$Regions", name := "worse", desc := "(III)I" } : Jvm.MethodName)) ∈ lw_tbl := lw_at lw_m8 15 rfl
theorem qt1942 : (Jvm.Cond.instanceMethod ({ cls := "RegionHouse$Regions", name := "worse", desc := "(III)I" } : Jvm.MethodName)) ∈ lw_tbl := lw_at lw_m8 17 rfl
theorem qt1943 : (Jvm.Cond.code ({ cls := "RegionHouse$Regions", name := "worse", desc := "(III)I" } : Jvm.MethodName) prog_10_method_20_code (5 : Nat) (Option.some Jvm.ClassFile.FieldType.int)) ∈ lw_tbl := lw_at lw_m8 18 rfl
theorem qt1944 : (Jvm.Cond.methodLink "RegionHouse$Regions" (109 : Nat) ({ cls := "RegionHouse$Types", name := "reached", desc := "()I" } : Jvm.MethodName)) ∈ lw_tbl := lw_at lw_m8 19 rfl
theorem qt1945 : (Jvm.Cond.instanceMethod ({ cls := "RegionHouse$Types", name := "reached", desc := "()I" } : Jvm.MethodName)) ∈ lw_tbl := lw_at lw_m8 20 rfl
theorem qt1946 : (Jvm.Cond.selects "RegionHouse$Types" ({ cls := "RegionHouse$Types", name := "reached", desc := "()I" } : Jvm.MethodName) ({ cls := "RegionHouse$Types", name := "reached", desc := "()I" } : Jvm.MethodName)) ∈ lw_tbl := lw_at lw_m8 21 rfl
theorem qt1947 : (Jvm.Cond.code ({ cls := "RegionHouse$Types", name := "reached", desc := "()I" } : Jvm.MethodName) prog_13_method_22_code (1 : Nat) (Option.some Jvm.ClassFile.FieldType.int)) ∈ lw_tbl := lw_at lw_m8 22 rfl
theorem qt1948 : (Jvm.Cond.methodLink "RegionHouse$Regions" (266 : Nat) ({ cls := "RegionHouse$Regions", name := "isGreat", desc := "(I)Z" } : Jvm.MethodName)) ∈ lw_tbl := lw_at lw_m8 23 rfl
theorem qt1950 : (Jvm.Cond.instanceMethod ({ cls := "RegionHouse$Regions", name := "isGreat", desc := "(I)Z" } : Jvm.MethodName)) ∈ lw_tbl := lw_at lw_m8 25 rfl
theorem qt1951 : (Jvm.Cond.code ({ cls := "RegionHouse$Regions", name := "isGreat", desc := "(I)Z" } : Jvm.MethodName) prog_10_method_21_code (3 : Nat) (Option.some Jvm.ClassFile.FieldType.boolean)) ∈ lw_tbl := lw_at lw_m8 26 rfl
theorem qt1952 : (Jvm.Cond.methodLink "RegionHouse$Regions" (235 : Nat) ({ cls := "RegionHouse$Types", name := "measure", desc := "(I)V" } : Jvm.MethodName)) ∈ lw_tbl := lw_at lw_m8 27 rfl
theorem qt1953 : (Jvm.Cond.instanceMethod ({ cls := "RegionHouse$Types", name := "measure", desc := "(I)V" } : Jvm.MethodName)) ∈ lw_tbl := lw_at lw_m8 28 rfl
theorem qt1954 : (Jvm.Cond.selects "RegionHouse$Types" ({ cls := "RegionHouse$Types", name := "measure", desc := "(I)V" } : Jvm.MethodName) ({ cls := "RegionHouse$Types", name := "measure", desc := "(I)V" } : Jvm.MethodName)) ∈ lw_tbl := lw_at lw_m8 29 rfl
theorem qt1955 : (Jvm.Cond.code ({ cls := "RegionHouse$Types", name := "measure", desc := "(I)V" } : Jvm.MethodName) prog_13_method_23_code (4 : Nat) (Option.none : Option Jvm.ClassFile.FieldType)) ∈ lw_tbl := lw_at lw_m8 30 rfl
theorem qt1956 : (Jvm.Cond.methodLink "RegionHouse$Types" (112 : Nat) ({ cls := "RegionHouse$Types", name := "heldBy", desc := "(I)I" } : Jvm.MethodName)) ∈ lw_tbl := lw_at lw_m8 31 rfl
theorem qt1958 : (Jvm.Cond.instanceMethod ({ cls := "RegionHouse$Types", name := "heldBy", desc := "(I)I" } : Jvm.MethodName)) ∈ lw_tbl := lw_at lw_m8 33 rfl
theorem qt1959 : (Jvm.Cond.code ({ cls := "RegionHouse$Types", name := "heldBy", desc := "(I)I" } : Jvm.MethodName) prog_13_method_24_code (6 : Nat) (Option.some Jvm.ClassFile.FieldType.int)) ∈ lw_tbl := lw_at lw_m8 34 rfl
theorem qt1960 : (Jvm.Cond.methodLink "RegionHouse$Regions" (97 : Nat) ({ cls := "RegionHouse$Typing", name := "parameter", desc := "(II)I" } : Jvm.MethodName)) ∈ lw_tbl := lw_at lw_m8 35 rfl
theorem qt1961 : (Jvm.Cond.methodLink "RegionHouse$Regions" (238 : Nat) ({ cls := "RegionHouse$Types", name := "measured", desc := "()I" } : Jvm.MethodName)) ∈ lw_tbl := lw_at lw_m8 36 rfl
theorem qt1962 : (Jvm.Cond.instanceMethod ({ cls := "RegionHouse$Types", name := "measured", desc := "()I" } : Jvm.MethodName)) ∈ lw_tbl := lw_at lw_m8 37 rfl
theorem qt1963 : (Jvm.Cond.selects "RegionHouse$Types" ({ cls := "RegionHouse$Types", name := "measured", desc := "()I" } : Jvm.MethodName) ({ cls := "RegionHouse$Types", name := "measured", desc := "()I" } : Jvm.MethodName)) ∈ lw_tbl := lw_at lw_m8 38 rfl
theorem qt1964 : (Jvm.Cond.code ({ cls := "RegionHouse$Types", name := "measured", desc := "()I" } : Jvm.MethodName) prog_13_method_27_code (1 : Nat) (Option.some Jvm.ClassFile.FieldType.int)) ∈ lw_tbl := lw_at lw_m8 39 rfl
theorem qt1965 : (Jvm.Cond.methodLink "RegionHouse$Regions" (241 : Nat) ({ cls := "RegionHouse$Types", name := "unknowns", desc := "()I" } : Jvm.MethodName)) ∈ lw_tbl := lw_at lw_m8 40 rfl
theorem qt1966 : (Jvm.Cond.instanceMethod ({ cls := "RegionHouse$Types", name := "unknowns", desc := "()I" } : Jvm.MethodName)) ∈ lw_tbl := lw_at lw_m8 41 rfl
theorem qt1967 : (Jvm.Cond.selects "RegionHouse$Types" ({ cls := "RegionHouse$Types", name := "unknowns", desc := "()I" } : Jvm.MethodName) ({ cls := "RegionHouse$Types", name := "unknowns", desc := "()I" } : Jvm.MethodName)) ∈ lw_tbl := lw_at lw_m8 42 rfl
theorem qt1968 : (Jvm.Cond.code ({ cls := "RegionHouse$Types", name := "unknowns", desc := "()I" } : Jvm.MethodName) prog_13_method_25_code (1 : Nat) (Option.some Jvm.ClassFile.FieldType.int)) ∈ lw_tbl := lw_at lw_m8 43 rfl
theorem qt1969 : (Jvm.Cond.methodLink "RegionHouse$Regions" (244 : Nat) ({ cls := "RegionHouse$Types", name := "heldIn", desc := "()I" } : Jvm.MethodName)) ∈ lw_tbl := lw_at lw_m8 44 rfl
theorem qt1970 : (Jvm.Cond.instanceMethod ({ cls := "RegionHouse$Types", name := "heldIn", desc := "()I" } : Jvm.MethodName)) ∈ lw_tbl := lw_at lw_m8 45 rfl
theorem qt1971 : (Jvm.Cond.selects "RegionHouse$Types" ({ cls := "RegionHouse$Types", name := "heldIn", desc := "()I" } : Jvm.MethodName) ({ cls := "RegionHouse$Types", name := "heldIn", desc := "()I" } : Jvm.MethodName)) ∈ lw_tbl := lw_at lw_m8 46 rfl
theorem qt1972 : (Jvm.Cond.code ({ cls := "RegionHouse$Types", name := "heldIn", desc := "()I" } : Jvm.MethodName) prog_13_method_26_code (1 : Nat) (Option.some Jvm.ClassFile.FieldType.int)) ∈ lw_tbl := lw_at lw_m8 47 rfl
theorem qt1973 : (Jvm.Cond.methodLink "RegionHouse" (160 : Nat) ({ cls := "RegionHouse$Code", name := "make", desc := "()V" } : Jvm.MethodName)) ∈ lw_tbl := lw_at lw_m8 48 rfl
theorem qt1974 : (Jvm.Cond.instanceMethod ({ cls := "RegionHouse$Code", name := "make", desc := "()V" } : Jvm.MethodName)) ∈ lw_tbl := lw_at lw_m8 49 rfl
theorem qt1975 : (Jvm.Cond.selects "RegionHouse$Code" ({ cls := "RegionHouse$Code", name := "make", desc := "()V" } : Jvm.MethodName) ({ cls := "RegionHouse$Code", name := "make", desc := "()V" } : Jvm.MethodName)) ∈ lw_tbl := lw_at lw_m8 50 rfl
theorem qt1976 : (Jvm.Cond.code ({ cls := "RegionHouse$Code", name := "make", desc := "()V" } : Jvm.MethodName) prog_2_method_11_code (2 : Nat) (Option.none : Option Jvm.ClassFile.FieldType)) ∈ lw_tbl := lw_at lw_m8 51 rfl
theorem qt1977 : (Jvm.Cond.methodLink "RegionHouse$Code" (82 : Nat) ({ cls := "RegionHouse$Program", name := "whole", desc := "(I)I" } : Jvm.MethodName)) ∈ lw_tbl := lw_at lw_m8 52 rfl
theorem qt1978 : (Jvm.Cond.instanceMethod ({ cls := "RegionHouse$Program", name := "whole", desc := "(I)I" } : Jvm.MethodName)) ∈ lw_tbl := lw_at lw_m8 53 rfl
theorem qt1979 : (Jvm.Cond.selects "RegionHouse$Program" ({ cls := "RegionHouse$Program", name := "whole", desc := "(I)I" } : Jvm.MethodName) ({ cls := "RegionHouse$Program", name := "whole", desc := "(I)I" } : Jvm.MethodName)) ∈ lw_tbl := lw_at lw_m8 54 rfl
theorem qt1980 : (Jvm.Cond.code ({ cls := "RegionHouse$Program", name := "whole", desc := "(I)I" } : Jvm.MethodName) prog_8_method_13_code (2 : Nat) (Option.some Jvm.ClassFile.FieldType.int)) ∈ lw_tbl := lw_at lw_m8 55 rfl
theorem qt1981 : (Jvm.Cond.methodLink "RegionHouse$Code" (85 : Nat) ({ cls := "RegionHouse$Code", name := "part", desc := "(II)V" } : Jvm.MethodName)) ∈ lw_tbl := lw_at lw_m8 56 rfl
theorem qt1983 : (Jvm.Cond.instanceMethod ({ cls := "RegionHouse$Code", name := "part", desc := "(II)V" } : Jvm.MethodName)) ∈ lw_tbl := lw_at lw_m8 58 rfl
theorem qt1984 : (Jvm.Cond.code ({ cls := "RegionHouse$Code", name := "part", desc := "(II)V" } : Jvm.MethodName) prog_2_method_13_code (5 : Nat) (Option.none : Option Jvm.ClassFile.FieldType)) ∈ lw_tbl := lw_at lw_m8 59 rfl
theorem qt1985 : (Jvm.Cond.methodLink "RegionHouse$Code" (60 : Nat) ({ cls := "RegionHouse$Code", name := "put", desc := "(I)V" } : Jvm.MethodName)) ∈ lw_tbl := lw_at lw_m8 60 rfl
theorem qt1987 : (Jvm.Cond.instanceMethod ({ cls := "RegionHouse$Code", name := "put", desc := "(I)V" } : Jvm.MethodName)) ∈ lw_tbl := lw_at lw_m8 62 rfl
theorem qt1988 : (Jvm.Cond.code ({ cls := "RegionHouse$Code", name := "put", desc := "(I)V" } : Jvm.MethodName) prog_2_method_7_code (2 : Nat) (Option.none : Option Jvm.ClassFile.FieldType)) ∈ lw_tbl := lw_at lw_m8 63 rfl
theorem qt1989 : (Jvm.Cond.methodLink "RegionHouse$Code" (54 : Nat) ({ cls := "java/util/Arrays", name := "copyOf", desc := "([II)[I" } : Jvm.MethodName)) ∈ lw_tbl := lw_at lw_m8 64 rfl
theorem qt1990 : (Jvm.Cond.methodLink "RegionHouse$Code" (112 : Nat) ({ cls := "RegionHouse$Regions", name := "count", desc := "(I)I" } : Jvm.MethodName)) ∈ lw_tbl := lw_at lw_m8 65 rfl
theorem qt1991 : (Jvm.Cond.instanceMethod ({ cls := "RegionHouse$Regions", name := "count", desc := "(I)I" } : Jvm.MethodName)) ∈ lw_tbl := lw_at lw_m8 66 rfl
theorem qt1992 : (Jvm.Cond.selects "RegionHouse$Regions" ({ cls := "RegionHouse$Regions", name := "count", desc := "(I)I" } : Jvm.MethodName) ({ cls := "RegionHouse$Regions", name := "count", desc := "(I)I" } : Jvm.MethodName)) ∈ lw_tbl := lw_at lw_m8 67 rfl
theorem qt1993 : (Jvm.Cond.code ({ cls := "RegionHouse$Regions", name := "count", desc := "(I)I" } : Jvm.MethodName) prog_10_method_3_code (2 : Nat) (Option.some Jvm.ClassFile.FieldType.int)) ∈ lw_tbl := lw_at lw_m8 68 rfl
theorem qt1994 : (Jvm.Cond.methodLink "RegionHouse$Code" (115 : Nat) ({ cls := "RegionHouse$Regions", name := "owner", desc := "(II)I" } : Jvm.MethodName)) ∈ lw_tbl := lw_at lw_m8 69 rfl
theorem qt1995 : (Jvm.Cond.methodLink "RegionHouse$Code" (64 : Nat) ({ cls := "RegionHouse$Code", name := "put", desc := "(II)V" } : Jvm.MethodName)) ∈ lw_tbl := lw_at lw_m8 70 rfl
theorem qt1997 : (Jvm.Cond.instanceMethod ({ cls := "RegionHouse$Code", name := "put", desc := "(II)V" } : Jvm.MethodName)) ∈ lw_tbl := lw_at lw_m8 72 rfl
theorem qt1998 : (Jvm.Cond.code ({ cls := "RegionHouse$Code", name := "put", desc := "(II)V" } : Jvm.MethodName) prog_2_method_8_code (3 : Nat) (Option.none : Option Jvm.ClassFile.FieldType)) ∈ lw_tbl := lw_at lw_m8 73 rfl
theorem qt1999 : (Jvm.Cond.methodLink "RegionHouse$Code" (118 : Nat) ({ cls := "RegionHouse$Code", name := "inner", desc := "(II)V" } : Jvm.MethodName)) ∈ lw_tbl := lw_at lw_m8 74 rfl
theorem qt2001 : (Jvm.Cond.instanceMethod ({ cls := "RegionHouse$Code", name := "inner", desc := "(II)V" } : Jvm.MethodName)) ∈ lw_tbl := lw_at lw_m8 76 rfl
theorem qt2002 : (Jvm.Cond.code ({ cls := "RegionHouse$Code", name := "inner", desc := "(II)V" } : Jvm.MethodName) prog_2_method_16_code (3 : Nat) (Option.none : Option Jvm.ClassFile.FieldType)) ∈ lw_tbl := lw_at lw_m8 77 rfl
theorem qt2003 : (Jvm.Cond.methodLink "RegionHouse$Code" (136 : Nat) ({ cls := "RegionHouse$Code", name := "variable", desc := "(I)V" } : Jvm.MethodName)) ∈ lw_tbl := lw_at lw_m8 78 rfl
theorem qt2005 : (Jvm.Cond.instanceMethod ({ cls := "RegionHouse$Code", name := "variable", desc := "(I)V" } : Jvm.MethodName)) ∈ lw_tbl := lw_at lw_m8 80 rfl
theorem qt2006 : (Jvm.Cond.code ({ cls := "RegionHouse$Code", name := "variable", desc := "(I)V" } : Jvm.MethodName) prog_2_method_15_code (2 : Nat) (Option.none : Option Jvm.ClassFile.FieldType)) ∈ lw_tbl := lw_at lw_m8 81 rfl
theorem qt2007 : (Jvm.Cond.methodLink "RegionHouse$Code" (127 : Nat) ({ cls := "RegionHouse$Program", name := "captureOf", desc := "(II)I" } : Jvm.MethodName)) ∈ lw_tbl := lw_at lw_m8 82 rfl
theorem qt2008 : (Jvm.Cond.methodLink "RegionHouse$Code" (139 : Nat) ({ cls := "RegionHouse$Code", name := "call", desc := "(II)V" } : Jvm.MethodName)) ∈ lw_tbl := lw_at lw_m8 83 rfl
theorem qt2010 : (Jvm.Cond.instanceMethod ({ cls := "RegionHouse$Code", name := "call", desc := "(II)V" } : Jvm.MethodName)) ∈ lw_tbl := lw_at lw_m8 85 rfl
theorem qt2011 : (Jvm.Cond.code ({ cls := "RegionHouse$Code", name := "call", desc := "(II)V" } : Jvm.MethodName) prog_2_method_19_code (6 : Nat) (Option.none : Option Jvm.ClassFile.FieldType)) ∈ lw_tbl := lw_at lw_m8 86 rfl
theorem qt2012 : (Jvm.Cond.methodLink "RegionHouse$Code" (169 : Nat) ({ cls := "RegionHouse$Typing", name := "regions", desc := "(I)I" } : Jvm.MethodName)) ∈ lw_tbl := lw_at lw_m8 87 rfl
theorem qt2013 : (Jvm.Cond.methodLink "RegionHouse$Code" (171 : Nat) ({ cls := "RegionHouse$Typing", name := "region", desc := "(II)I" } : Jvm.MethodName)) ∈ lw_tbl := lw_at lw_m8 88 rfl
theorem qt2014 : (Jvm.Cond.methodLink "RegionHouse$Code" (174 : Nat) ({ cls := "RegionHouse$Typing", name := "handed", desc := "(II)I" } : Jvm.MethodName)) ∈ lw_tbl := lw_at lw_m8 89 rfl
theorem qt2015 : (Jvm.Cond.methodLink "RegionHouse$Code" (108 : Nat) ({ cls := "RegionHouse$Regions", name := "number", desc := "(II)I" } : Jvm.MethodName)) ∈ lw_tbl := lw_at lw_m8 90 rfl
theorem qt2016 : (Jvm.Cond.methodLink "RegionHouse$Code" (142 : Nat) ({ cls := "RegionHouse$Code", name := "two", desc := "(III)V" } : Jvm.MethodName)) ∈ lw_tbl := lw_at lw_m8 91 rfl
theorem qt2018 : (Jvm.Cond.instanceMethod ({ cls := "RegionHouse$Code", name := "two", desc := "(III)V" } : Jvm.MethodName)) ∈ lw_tbl := lw_at lw_m8 93 rfl
theorem qt2019 : (Jvm.Cond.code ({ cls := "RegionHouse$Code", name := "two", desc := "(III)V" } : Jvm.MethodName) prog_2_method_14_code (4 : Nat) (Option.none : Option Jvm.ClassFile.FieldType)) ∈ lw_tbl := lw_at lw_m8 94 rfl
theorem qt2020 : (Jvm.Cond.methodLink "RegionHouse$Code" (146 : Nat) ({ cls := "RegionHouse$Code", name := "number", desc := "(I)I" } : Jvm.MethodName)) ∈ lw_tbl := lw_at lw_m8 95 rfl
theorem qt2022 : (Jvm.Cond.instanceMethod ({ cls := "RegionHouse$Code", name := "number", desc := "(I)I" } : Jvm.MethodName)) ∈ lw_tbl := lw_at lw_m8 97 rfl
theorem qt2023 : (Jvm.Cond.code ({ cls := "RegionHouse$Code", name := "number", desc := "(I)I" } : Jvm.MethodName) prog_2_method_12_code (2 : Nat) (Option.some Jvm.ClassFile.FieldType.int)) ∈ lw_tbl := lw_at lw_m8 98 rfl
theorem qt2024 : (Jvm.Cond.methodLink "RegionHouse$Code" (103 : Nat) ({ cls := "RegionHouse$Typing", name := "type", desc := "(I)I" } : Jvm.MethodName)) ∈ lw_tbl := lw_at lw_m8 99 rfl
theorem qt2025 : (Jvm.Cond.methodLink "RegionHouse$Code" (148 : Nat) ({ cls := "RegionHouse$Code", name := "closure", desc := "(I)V" } : Jvm.MethodName)) ∈ lw_tbl := lw_at lw_m8 100 rfl
theorem qt2027 : (Jvm.Cond.instanceMethod ({ cls := "RegionHouse$Code", name := "closure", desc := "(I)V" } : Jvm.MethodName)) ∈ lw_tbl := lw_at lw_m8 102 rfl
theorem qt2028 : (Jvm.Cond.code ({ cls := "RegionHouse$Code", name := "closure", desc := "(I)V" } : Jvm.MethodName) prog_2_method_20_code (6 : Nat) (Option.none : Option Jvm.ClassFile.FieldType)) ∈ lw_tbl := lw_at lw_m8 103 rfl
theorem qt2029 : (Jvm.Cond.methodLink "RegionHouse$Code" (151 : Nat) ({ cls := "RegionHouse$Code", name := "choice", desc := "(II)V" } : Jvm.MethodName)) ∈ lw_tbl := lw_at lw_m8 104 rfl
theorem qt2031 : (Jvm.Cond.instanceMethod ({ cls := "RegionHouse$Code", name := "choice", desc := "(II)V" } : Jvm.MethodName)) ∈ lw_tbl := lw_at lw_m8 106 rfl
theorem qt2032 : (Jvm.Cond.code ({ cls := "RegionHouse$Code", name := "choice", desc := "(II)V" } : Jvm.MethodName) prog_2_method_17_code (5 : Nat) (Option.none : Option Jvm.ClassFile.FieldType)) ∈ lw_tbl := lw_at lw_m8 107 rfl
theorem qt2033 : (Jvm.Cond.methodLink "RegionHouse$Code" (157 : Nat) ({ cls := "RegionHouse$Code", name := "gap", desc := "(I)I" } : Jvm.MethodName)) ∈ lw_tbl := lw_at lw_m8 108 rfl
theorem qt2035 : (Jvm.Cond.instanceMethod ({ cls := "RegionHouse$Code", name := "gap", desc := "(I)I" } : Jvm.MethodName)) ∈ lw_tbl := lw_at lw_m8 110 rfl
theorem qt2036 : (Jvm.Cond.code ({ cls := "RegionHouse$Code", name := "gap", desc := "(I)I" } : Jvm.MethodName) prog_2_method_9_code (2 : Nat) (Option.some Jvm.ClassFile.FieldType.int)) ∈ lw_tbl := lw_at lw_m8 111 rfl
theorem qt2037 : (Jvm.Cond.methodLink "RegionHouse$Code" (160 : Nat) ({ cls := "RegionHouse$Code", name := "fill", desc := "(I)V" } : Jvm.MethodName)) ∈ lw_tbl := lw_at lw_m8 112 rfl
theorem qt2039 : (Jvm.Cond.instanceMethod ({ cls := "RegionHouse$Code", name := "fill", desc := "(I)V" } : Jvm.MethodName)) ∈ lw_tbl := lw_at lw_m8 114 rfl
theorem qt2040 : (Jvm.Cond.code ({ cls := "RegionHouse$Code", name := "fill", desc := "(I)V" } : Jvm.MethodName) prog_2_method_10_code (2 : Nat) (Option.none : Option Jvm.ClassFile.FieldType)) ∈ lw_tbl := lw_at lw_m8 115 rfl
theorem qt2041 : (Jvm.Cond.methodLink "RegionHouse$Code" (154 : Nat) ({ cls := "RegionHouse$Code", name := "cases", desc := "(II)V" } : Jvm.MethodName)) ∈ lw_tbl := lw_at lw_m8 116 rfl
theorem qt2043 : (Jvm.Cond.instanceMethod ({ cls := "RegionHouse$Code", name := "cases", desc := "(II)V" } : Jvm.MethodName)) ∈ lw_tbl := lw_at lw_m8 118 rfl
theorem qt2044 : (Jvm.Cond.code ({ cls := "RegionHouse$Code", name := "cases", desc := "(II)V" } : Jvm.MethodName) prog_2_method_18_code (5 : Nat) (Option.none : Option Jvm.ClassFile.FieldType)) ∈ lw_tbl := lw_at lw_m8 119 rfl
theorem qt2045 : (Jvm.Cond.methodLink "RegionHouse" (175 : Nat) ({ cls := "RegionHouse", name := "right", desc := "(Z)V" } : Jvm.MethodName)) ∈ lw_tbl := lw_at lw_m8 120 rfl
theorem qt2046 : (Jvm.Cond.static ({ cls := "RegionHouse", name := "right", desc := "(Z)V" } : Jvm.MethodName)) ∈ lw_tbl := lw_at lw_m8 121 rfl
theorem qt2047 : (Jvm.Cond.code ({ cls := "RegionHouse", name := "right", desc := "(Z)V" } : Jvm.MethodName) prog_1_method_4_code (1 : Nat) (Option.none : Option Jvm.ClassFile.FieldType)) ∈ lw_tbl := lw_at lw_m8 122 rfl
theorem qt2063 : (Jvm.Cond.methodLink "RegionHouseLaw" (67 : Nat) ({ cls := "RegionHouseLaw", name := "annotate", desc := "(LRegionHouse;[J)I" } : Jvm.MethodName)) ∈ lw_tbl := lw_at lw_m8 138 rfl
theorem qt2064 : (Jvm.Cond.static ({ cls := "RegionHouseLaw", name := "annotate", desc := "(LRegionHouse;[J)I" } : Jvm.MethodName)) ∈ lw_tbl := lw_at lw_m8 139 rfl
theorem qt2065 : (Jvm.Cond.codeWith ({ cls := "RegionHouseLaw", name := "annotate", desc := "(LRegionHouse;[J)I" } : Jvm.MethodName) method_4_code (3 : Nat) (Option.some Jvm.ClassFile.FieldType.int) [((0 : Nat), (8 : Nat), (11 : Nat), (18 : Nat))]) ∈ lw_tbl := lw_at lw_m8 140 rfl
theorem qt2067 : (Jvm.Cond.methodLink "RegionHouseLaw" (15 : Nat) ({ cls := "RegionHouse", name := "annotate", desc := "()I" } : Jvm.MethodName)) ∈ lw_tbl := lw_at lw_m8 142 rfl
theorem qt2068 : (Jvm.Cond.instanceMethod ({ cls := "RegionHouse", name := "annotate", desc := "()I" } : Jvm.MethodName)) ∈ lw_tbl := lw_at lw_m8 143 rfl
theorem qt2069 : (Jvm.Cond.selects "RegionHouse" ({ cls := "RegionHouse", name := "annotate", desc := "()I" } : Jvm.MethodName) ({ cls := "RegionHouse", name := "annotate", desc := "()I" } : Jvm.MethodName)) ∈ lw_tbl := lw_at lw_m8 144 rfl
theorem qt2070 : (Jvm.Cond.code ({ cls := "RegionHouse", name := "annotate", desc := "()I" } : Jvm.MethodName) prog_1_method_9_code (1 : Nat) (Option.some Jvm.ClassFile.FieldType.int)) ∈ lw_tbl := lw_at lw_m8 145 rfl
theorem qt2071 : (Jvm.Cond.methodLink "RegionHouse" (185 : Nat) ({ cls := "RegionHouse", name := "can", desc := "(Z)V" } : Jvm.MethodName)) ∈ lw_tbl := lw_at lw_m8 146 rfl
theorem qt2072 : (Jvm.Cond.static ({ cls := "RegionHouse", name := "can", desc := "(Z)V" } : Jvm.MethodName)) ∈ lw_tbl := lw_at lw_m8 147 rfl
theorem qt2073 : (Jvm.Cond.code ({ cls := "RegionHouse", name := "can", desc := "(Z)V" } : Jvm.MethodName) prog_1_method_2_code (1 : Nat) (Option.none : Option Jvm.ClassFile.FieldType)) ∈ lw_tbl := lw_at lw_m8 148 rfl
theorem qt2089 : (Jvm.Cond.methodLink "RegionHouse" (188 : Nat) ({ cls := "RegionHouse$Printer", name := "annotate", desc := "()V" } : Jvm.MethodName)) ∈ lw_tbl := lw_at lw_m8 164 rfl
theorem qt2090 : (Jvm.Cond.instanceMethod ({ cls := "RegionHouse$Printer", name := "annotate", desc := "()V" } : Jvm.MethodName)) ∈ lw_tbl := lw_at lw_m8 165 rfl
theorem qt2091 : (Jvm.Cond.selects "RegionHouse$Printer" ({ cls := "RegionHouse$Printer", name := "annotate", desc := "()V" } : Jvm.MethodName) ({ cls := "RegionHouse$Printer", name := "annotate", desc := "()V" } : Jvm.MethodName)) ∈ lw_tbl := lw_at lw_m8 166 rfl
theorem qt2092 : (Jvm.Cond.code ({ cls := "RegionHouse$Printer", name := "annotate", desc := "()V" } : Jvm.MethodName) prog_7_method_4_code (2 : Nat) (Option.none : Option Jvm.ClassFile.FieldType)) ∈ lw_tbl := lw_at lw_m8 167 rfl
theorem qt2093 : (Jvm.Cond.methodLink "RegionHouse$Printer" (80 : Nat) ({ cls := "RegionHouse$Signs", name := "clear", desc := "()V" } : Jvm.MethodName)) ∈ lw_tbl := lw_at lw_m8 168 rfl
theorem qt2094 : (Jvm.Cond.methodLink "RegionHouse$Printer" (83 : Nat) ({ cls := "RegionHouse$Lexemes", name := "many", desc := "()I" } : Jvm.MethodName)) ∈ lw_tbl := lw_at lw_m8 169 rfl
theorem qt2095 : (Jvm.Cond.instanceMethod ({ cls := "RegionHouse$Lexemes", name := "many", desc := "()I" } : Jvm.MethodName)) ∈ lw_tbl := lw_at lw_m8 170 rfl
theorem qt2096 : (Jvm.Cond.selects "RegionHouse$Lexemes" ({ cls := "RegionHouse$Lexemes", name := "many", desc := "()I" } : Jvm.MethodName) ({ cls := "RegionHouse$Lexemes", name := "many", desc := "()I" } : Jvm.MethodName)) ∈ lw_tbl := lw_at lw_m8 171 rfl
theorem qt2097 : (Jvm.Cond.code ({ cls := "RegionHouse$Lexemes", name := "many", desc := "()I" } : Jvm.MethodName) prog_4_method_2_code (1 : Nat) (Option.some Jvm.ClassFile.FieldType.int)) ∈ lw_tbl := lw_at lw_m8 172 rfl
theorem qt2098 : (Jvm.Cond.methodLink "RegionHouse$Printer" (98 : Nat) ({ cls := "RegionHouse$Printer", name := "note", desc := "(I)V" } : Jvm.MethodName)) ∈ lw_tbl := lw_at lw_m8 173 rfl
theorem qt2100 : (Jvm.Cond.instanceMethod ({ cls := "RegionHouse$Printer", name := "note", desc := "(I)V" } : Jvm.MethodName)) ∈ lw_tbl := lw_at lw_m8 175 rfl
theorem qt2101 : (Jvm.Cond.code ({ cls := "RegionHouse$Printer", name := "note", desc := "(I)V" } : Jvm.MethodName) prog_7_method_5_code (3 : Nat) (Option.none : Option Jvm.ClassFile.FieldType)) ∈ lw_tbl := lw_at lw_m8 176 rfl
theorem qt2102 : (Jvm.Cond.methodLink "RegionHouse$Printer" (104 : Nat) ({ cls := "RegionHouse$Printer", name := "hasOwn", desc := "(I)Z" } : Jvm.MethodName)) ∈ lw_tbl := lw_at lw_m8 177 rfl
theorem qt2104 : (Jvm.Cond.instanceMethod ({ cls := "RegionHouse$Printer", name := "hasOwn", desc := "(I)Z" } : Jvm.MethodName)) ∈ lw_tbl := lw_at lw_m8 179 rfl
theorem qt2105 : (Jvm.Cond.code ({ cls := "RegionHouse$Printer", name := "hasOwn", desc := "(I)Z" } : Jvm.MethodName) prog_7_method_3_code (4 : Nat) (Option.some Jvm.ClassFile.FieldType.boolean)) ∈ lw_tbl := lw_at lw_m8 180 rfl
theorem qt2106 : (Jvm.Cond.methodLink "RegionHouse$Printer" (70 : Nat) ({ cls := "RegionHouse$Regions", name := "count", desc := "(I)I" } : Jvm.MethodName)) ∈ lw_tbl := lw_at lw_m8 181 rfl
theorem qt2107 : (Jvm.Cond.methodLink "RegionHouse$Printer" (76 : Nat) ({ cls := "RegionHouse$Regions", name := "owner", desc := "(II)I" } : Jvm.MethodName)) ∈ lw_tbl := lw_at lw_m8 182 rfl
theorem qt2108 : (Jvm.Cond.methodLink "RegionHouse$Printer" (101 : Nat) ({ cls := "RegionHouse$Program", name := "whole", desc := "(I)I" } : Jvm.MethodName)) ∈ lw_tbl := lw_at lw_m8 183 rfl
theorem qt2109 : (Jvm.Cond.methodLink "RegionHouse$Printer" (114 : Nat) ({ cls := "RegionHouse$Printer", name := "lexeme", desc := "(I)V" } : Jvm.MethodName)) ∈ lw_tbl := lw_at lw_m8 184 rfl
theorem qt2111 : (Jvm.Cond.instanceMethod ({ cls := "RegionHouse$Printer", name := "lexeme", desc := "(I)V" } : Jvm.MethodName)) ∈ lw_tbl := lw_at lw_m8 186 rfl
theorem qt2112 : (Jvm.Cond.code ({ cls := "RegionHouse$Printer", name := "lexeme", desc := "(I)V" } : Jvm.MethodName) prog_7_method_6_code (4 : Nat) (Option.none : Option Jvm.ClassFile.FieldType)) ∈ lw_tbl := lw_at lw_m8 187 rfl
theorem qt2114 : (Jvm.Cond.methodLink "RegionHouse$Printer" (128 : Nat) ({ cls := "RegionHouse$Printer", name := "owned", desc := "(Ljava/lang/String;I)V" } : Jvm.MethodName)) ∈ lw_tbl := lw_at lw_m8 189 rfl
theorem qt2116 : (Jvm.Cond.instanceMethod ({ cls := "RegionHouse$Printer", name := "owned", desc := "(Ljava/lang/String;I)V" } : Jvm.MethodName)) ∈ lw_tbl := lw_at lw_m8 191 rfl
theorem qt2117 : (Jvm.Cond.code ({ cls := "RegionHouse$Printer", name := "owned", desc := "(Ljava/lang/String;I)V" } : Jvm.MethodName) prog_7_method_7_code (4 : Nat) (Option.none : Option Jvm.ClassFile.FieldType)) ∈ lw_tbl := lw_at lw_m8 192 rfl
theorem qt2118 : (Jvm.Cond.methodLink "RegionHouse$Printer" (132 : Nat) ({ cls := "RegionHouse$Printer", name := "next", desc := "()V" } : Jvm.MethodName)) ∈ lw_tbl := lw_at lw_m8 193 rfl
theorem qt2120 : (Jvm.Cond.instanceMethod ({ cls := "RegionHouse$Printer", name := "next", desc := "()V" } : Jvm.MethodName)) ∈ lw_tbl := lw_at lw_m8 195 rfl
theorem qt2121 : (Jvm.Cond.code ({ cls := "RegionHouse$Printer", name := "next", desc := "()V" } : Jvm.MethodName) prog_7_method_2_code (1 : Nat) (Option.none : Option Jvm.ClassFile.FieldType)) ∈ lw_tbl := lw_at lw_m8 196 rfl
theorem qt2122 : (Jvm.Cond.methodLink "RegionHouse$Printer" (60 : Nat) ({ cls := "RegionHouse$Signs", name := "add", desc := "(I)V" } : Jvm.MethodName)) ∈ lw_tbl := lw_at lw_m8 197 rfl
theorem qt2123 : (Jvm.Cond.methodLink "RegionHouse$Printer" (148 : Nat) ({ cls := "RegionHouse$Signs", name := "add", desc := "(Ljava/lang/String;)V" } : Jvm.MethodName)) ∈ lw_tbl := lw_at lw_m8 198 rfl
theorem qt2124 : (Jvm.Cond.instanceMethod ({ cls := "RegionHouse$Signs", name := "add", desc := "(Ljava/lang/String;)V" } : Jvm.MethodName)) ∈ lw_tbl := lw_at lw_m8 199 rfl
theorem qt2125 : (Jvm.Cond.selects "RegionHouse$Signs" ({ cls := "RegionHouse$Signs", name := "add", desc := "(Ljava/lang/String;)V" } : Jvm.MethodName) ({ cls := "RegionHouse$Signs", name := "add", desc := "(Ljava/lang/String;)V" } : Jvm.MethodName)) ∈ lw_tbl := lw_at lw_m8 200 rfl
theorem qt2126 : (Jvm.Cond.code ({ cls := "RegionHouse$Signs", name := "add", desc := "(Ljava/lang/String;)V" } : Jvm.MethodName) prog_11_method_7_code (3 : Nat) (Option.none : Option Jvm.ClassFile.FieldType)) ∈ lw_tbl := lw_at lw_m8 201 rfl
theorem qt2127 : (Jvm.Cond.methodLink "RegionHouse$Signs" (21 : Nat) ({ cls := "java/lang/String", name := "length", desc := "()I" } : Jvm.MethodName)) ∈ lw_tbl := lw_at lw_m8 202 rfl
theorem qt2128 : (Jvm.Cond.methodLink "RegionHouse$Signs" (27 : Nat) ({ cls := "java/lang/String", name := "charAt", desc := "(I)C" } : Jvm.MethodName)) ∈ lw_tbl := lw_at lw_m8 203 rfl
theorem qt2129 : (Jvm.Cond.methodLink "RegionHouse$Signs" (31 : Nat) ({ cls := "RegionHouse$Signs", name := "add", desc := "(I)V" } : Jvm.MethodName)) ∈ lw_tbl := lw_at lw_m8 204 rfl
theorem qt2130 : (Jvm.Cond.methodLink "RegionHouse$Printer" (139 : Nat) ({ cls := "RegionHouse$Printer", name := "listed", desc := "(ZI)Z" } : Jvm.MethodName)) ∈ lw_tbl := lw_at lw_m8 205 rfl
theorem qt2132 : (Jvm.Cond.instanceMethod ({ cls := "RegionHouse$Printer", name := "listed", desc := "(ZI)Z" } : Jvm.MethodName)) ∈ lw_tbl := lw_at lw_m8 207 rfl
theorem qt2133 : (Jvm.Cond.code ({ cls := "RegionHouse$Printer", name := "listed", desc := "(ZI)Z" } : Jvm.MethodName) prog_7_method_8_code (3 : Nat) (Option.some Jvm.ClassFile.FieldType.boolean)) ∈ lw_tbl := lw_at lw_m8 208 rfl
theorem qt2134 : (Jvm.Cond.methodLink "RegionHouse$Printer" (151 : Nat) ({ cls := "RegionHouse$Signs", name := "addNumber", desc := "(I)V" } : Jvm.MethodName)) ∈ lw_tbl := lw_at lw_m8 209 rfl
theorem qt2135 : (Jvm.Cond.instanceMethod ({ cls := "RegionHouse$Signs", name := "addNumber", desc := "(I)V" } : Jvm.MethodName)) ∈ lw_tbl := lw_at lw_m8 210 rfl
theorem qt2136 : (Jvm.Cond.selects "RegionHouse$Signs" ({ cls := "RegionHouse$Signs", name := "addNumber", desc := "(I)V" } : Jvm.MethodName) ({ cls := "RegionHouse$Signs", name := "addNumber", desc := "(I)V" } : Jvm.MethodName)) ∈ lw_tbl := lw_at lw_m8 211 rfl
theorem qt2137 : (Jvm.Cond.code ({ cls := "RegionHouse$Signs", name := "addNumber", desc := "(I)V" } : Jvm.MethodName) prog_11_method_8_code (6 : Nat) (Option.none : Option Jvm.ClassFile.FieldType)) ∈ lw_tbl := lw_at lw_m8 212 rfl
theorem qt2138 : (Jvm.Cond.constantLong "RegionHouse$Signs" (35 : Nat) (9 : Int64)) ∈ lw_tbl := lw_at lw_m8 213 rfl
theorem qt2139 : (Jvm.Cond.constantLong "RegionHouse$Signs" (37 : Nat) (10 : Int64)) ∈ lw_tbl := lw_at lw_m8 214 rfl
theorem qt2140 : (Jvm.Cond.constantLong "RegionHouse$Signs" (39 : Nat) (48 : Int64)) ∈ lw_tbl := lw_at lw_m8 215 rfl
theorem qt2141 : (Jvm.Cond.methodLink "RegionHouse$Printer" (135 : Nat) ({ cls := "RegionHouse$Lexemes", name := "write", desc := "(ILRegionHouse$Signs;)V" } : Jvm.MethodName)) ∈ lw_tbl := lw_at lw_m8 216 rfl
theorem qt2142 : (Jvm.Cond.instanceMethod ({ cls := "RegionHouse$Lexemes", name := "write", desc := "(ILRegionHouse$Signs;)V" } : Jvm.MethodName)) ∈ lw_tbl := lw_at lw_m8 217 rfl
theorem qt2143 : (Jvm.Cond.selects "RegionHouse$Lexemes" ({ cls := "RegionHouse$Lexemes", name := "write", desc := "(ILRegionHouse$Signs;)V" } : Jvm.MethodName) ({ cls := "RegionHouse$Lexemes", name := "write", desc := "(ILRegionHouse$Signs;)V" } : Jvm.MethodName)) ∈ lw_tbl := lw_at lw_m8 218 rfl
theorem qt2144 : (Jvm.Cond.code ({ cls := "RegionHouse$Lexemes", name := "write", desc := "(ILRegionHouse$Signs;)V" } : Jvm.MethodName) prog_4_method_18_code (4 : Nat) (Option.none : Option Jvm.ClassFile.FieldType)) ∈ lw_tbl := lw_at lw_m8 219 rfl
theorem qt2145 : (Jvm.Cond.methodLink "RegionHouse$Lexemes" (116 : Nat) ({ cls := "RegionHouse$Signs", name := "add", desc := "(I)V" } : Jvm.MethodName)) ∈ lw_tbl := lw_at lw_m8 220 rfl
theorem qt2146 : (Jvm.Cond.methodLink "RegionHouse$Printer" (143 : Nat) ({ cls := "RegionHouse$Printer", name := "noted", desc := "(I)V" } : Jvm.MethodName)) ∈ lw_tbl := lw_at lw_m8 221 rfl
theorem qt2148 : (Jvm.Cond.instanceMethod ({ cls := "RegionHouse$Printer", name := "noted", desc := "(I)V" } : Jvm.MethodName)) ∈ lw_tbl := lw_at lw_m8 223 rfl
theorem qt2149 : (Jvm.Cond.code ({ cls := "RegionHouse$Printer", name := "noted", desc := "(I)V" } : Jvm.MethodName) prog_7_method_9_code (4 : Nat) (Option.none : Option Jvm.ClassFile.FieldType)) ∈ lw_tbl := lw_at lw_m8 224 rfl
theorem qt2150 : (Jvm.Cond.methodLink "RegionHouse$Printer" (154 : Nat) ({ cls := "RegionHouse$Printer", name := "handed", desc := "(I)V" } : Jvm.MethodName)) ∈ lw_tbl := lw_at lw_m8 225 rfl
theorem qt2152 : (Jvm.Cond.instanceMethod ({ cls := "RegionHouse$Printer", name := "handed", desc := "(I)V" } : Jvm.MethodName)) ∈ lw_tbl := lw_at lw_m8 227 rfl
theorem qt2153 : (Jvm.Cond.code ({ cls := "RegionHouse$Printer", name := "handed", desc := "(I)V" } : Jvm.MethodName) prog_7_method_10_code (6 : Nat) (Option.none : Option Jvm.ClassFile.FieldType)) ∈ lw_tbl := lw_at lw_m8 228 rfl
theorem qt2154 : (Jvm.Cond.methodLink "RegionHouse$Printer" (173 : Nat) ({ cls := "RegionHouse$Typing", name := "regions", desc := "(I)I" } : Jvm.MethodName)) ∈ lw_tbl := lw_at lw_m8 229 rfl
theorem qt2155 : (Jvm.Cond.methodLink "RegionHouse$Printer" (175 : Nat) ({ cls := "RegionHouse$Typing", name := "region", desc := "(II)I" } : Jvm.MethodName)) ∈ lw_tbl := lw_at lw_m8 230 rfl
theorem qt2156 : (Jvm.Cond.methodLink "RegionHouse$Printer" (178 : Nat) ({ cls := "RegionHouse$Typing", name := "handed", desc := "(II)I" } : Jvm.MethodName)) ∈ lw_tbl := lw_at lw_m8 231 rfl
theorem qt2157 : (Jvm.Cond.methodLink "RegionHouse$Printer" (162 : Nat) ({ cls := "RegionHouse$Regions", name := "number", desc := "(II)I" } : Jvm.MethodName)) ∈ lw_tbl := lw_at lw_m8 232 rfl
theorem qt2158 : (Jvm.Cond.methodLink "RegionHouse$Printer" (157 : Nat) ({ cls := "RegionHouse$Typing", name := "type", desc := "(I)I" } : Jvm.MethodName)) ∈ lw_tbl := lw_at lw_m8 233 rfl
theorem qt2159 : (Jvm.Cond.methodLink "RegionHouse$Printer" (168 : Nat) ({ cls := "RegionHouse$Regions", name := "kept", desc := "(I)I" } : Jvm.MethodName)) ∈ lw_tbl := lw_at lw_m8 234 rfl
theorem qt2160 : (Jvm.Cond.methodLink "RegionHouse$Printer" (171 : Nat) ({ cls := "RegionHouse$Regions", name := "kept", desc := "(II)I" } : Jvm.MethodName)) ∈ lw_tbl := lw_at lw_m8 235 rfl
theorem qt2161 : (Jvm.Cond.instanceMethod ({ cls := "RegionHouse$Regions", name := "kept", desc := "(II)I" } : Jvm.MethodName)) ∈ lw_tbl := lw_at lw_m8 236 rfl
theorem qt2162 : (Jvm.Cond.selects "RegionHouse$Regions" ({ cls := "RegionHouse$Regions", name := "kept", desc := "(II)I" } : Jvm.MethodName) ({ cls := "RegionHouse$Regions", name := "kept", desc := "(II)I" } : Jvm.MethodName)) ∈ lw_tbl := lw_at lw_m8 237 rfl
theorem qt2163 : (Jvm.Cond.code ({ cls := "RegionHouse$Regions", name := "kept", desc := "(II)I" } : Jvm.MethodName) prog_10_method_8_code (3 : Nat) (Option.some Jvm.ClassFile.FieldType.int)) ∈ lw_tbl := lw_at lw_m8 238 rfl
theorem qt2165 : (Jvm.Cond.methodLink "RegionHouseLaw" (70 : Nat) ({ cls := "RegionHouseLaw", name := "signature", desc := "(LRegionHouse;I[J)I" } : Jvm.MethodName)) ∈ lw_tbl := lw_at lw_m9 0 rfl
theorem qt2166 : (Jvm.Cond.static ({ cls := "RegionHouseLaw", name := "signature", desc := "(LRegionHouse;I[J)I" } : Jvm.MethodName)) ∈ lw_tbl := lw_at lw_m9 1 rfl
theorem qt2167 : (Jvm.Cond.codeWith ({ cls := "RegionHouseLaw", name := "signature", desc := "(LRegionHouse;I[J)I" } : Jvm.MethodName) method_5_code (4 : Nat) (Option.some Jvm.ClassFile.FieldType.int) [((0 : Nat), (9 : Nat), (12 : Nat), (18 : Nat)), ((0 : Nat), (9 : Nat), (15 : Nat), (24 : Nat))]) ∈ lw_tbl := lw_at lw_m9 2 rfl
theorem qt2200 : (Jvm.Cond.methodLink "RegionHouseLaw" (20 : Nat) ({ cls := "RegionHouse", name := "signature", desc := "(I)I" } : Jvm.MethodName)) ∈ lw_tbl := lw_at lw_m9 35 rfl
theorem qt2201 : (Jvm.Cond.instanceMethod ({ cls := "RegionHouse", name := "signature", desc := "(I)I" } : Jvm.MethodName)) ∈ lw_tbl := lw_at lw_m9 36 rfl
theorem qt2202 : (Jvm.Cond.selects "RegionHouse" ({ cls := "RegionHouse", name := "signature", desc := "(I)I" } : Jvm.MethodName) ({ cls := "RegionHouse", name := "signature", desc := "(I)I" } : Jvm.MethodName)) ∈ lw_tbl := lw_at lw_m9 37 rfl
theorem qt2203 : (Jvm.Cond.code ({ cls := "RegionHouse", name := "signature", desc := "(I)I" } : Jvm.MethodName) prog_1_method_11_code (2 : Nat) (Option.some Jvm.ClassFile.FieldType.int)) ∈ lw_tbl := lw_at lw_m9 38 rfl
theorem qt2204 : (Jvm.Cond.methodLink "RegionHouse" (194 : Nat) ({ cls := "RegionHouse", name := "thereIs", desc := "(I)V" } : Jvm.MethodName)) ∈ lw_tbl := lw_at lw_m9 39 rfl
theorem qt2206 : (Jvm.Cond.instanceMethod ({ cls := "RegionHouse", name := "thereIs", desc := "(I)V" } : Jvm.MethodName)) ∈ lw_tbl := lw_at lw_m9 41 rfl
theorem qt2207 : (Jvm.Cond.code ({ cls := "RegionHouse", name := "thereIs", desc := "(I)V" } : Jvm.MethodName) prog_1_method_10_code (2 : Nat) (Option.none : Option Jvm.ClassFile.FieldType)) ∈ lw_tbl := lw_at lw_m9 42 rfl
theorem qt2208 : (Jvm.Cond.methodLink "RegionHouse" (191 : Nat) ({ cls := "RegionHouse", name := "there", desc := "(Z)V" } : Jvm.MethodName)) ∈ lw_tbl := lw_at lw_m9 43 rfl
theorem qt2209 : (Jvm.Cond.static ({ cls := "RegionHouse", name := "there", desc := "(Z)V" } : Jvm.MethodName)) ∈ lw_tbl := lw_at lw_m9 44 rfl
theorem qt2210 : (Jvm.Cond.code ({ cls := "RegionHouse", name := "there", desc := "(Z)V" } : Jvm.MethodName) prog_1_method_3_code (1 : Nat) (Option.none : Option Jvm.ClassFile.FieldType)) ∈ lw_tbl := lw_at lw_m9 45 rfl
theorem qt2226 : (Jvm.Cond.methodLink "RegionHouse" (197 : Nat) ({ cls := "RegionHouse$Printer", name := "signature", desc := "(I)V" } : Jvm.MethodName)) ∈ lw_tbl := lw_at lw_m9 61 rfl
theorem qt2227 : (Jvm.Cond.instanceMethod ({ cls := "RegionHouse$Printer", name := "signature", desc := "(I)V" } : Jvm.MethodName)) ∈ lw_tbl := lw_at lw_m9 62 rfl
theorem qt2228 : (Jvm.Cond.selects "RegionHouse$Printer" ({ cls := "RegionHouse$Printer", name := "signature", desc := "(I)V" } : Jvm.MethodName) ({ cls := "RegionHouse$Printer", name := "signature", desc := "(I)V" } : Jvm.MethodName)) ∈ lw_tbl := lw_at lw_m9 63 rfl
theorem qt2229 : (Jvm.Cond.code ({ cls := "RegionHouse$Printer", name := "signature", desc := "(I)V" } : Jvm.MethodName) prog_7_method_11_code (3 : Nat) (Option.none : Option Jvm.ClassFile.FieldType)) ∈ lw_tbl := lw_at lw_m9 64 rfl
theorem qt2231 : (Jvm.Cond.methodLink "RegionHouse$Printer" (188 : Nat) ({ cls := "RegionHouse$Typing", name := "parameter", desc := "(II)I" } : Jvm.MethodName)) ∈ lw_tbl := lw_at lw_m9 66 rfl
theorem qt2232 : (Jvm.Cond.methodLink "RegionHouse$Printer" (191 : Nat) ({ cls := "RegionHouse$Printer", name := "type", desc := "(I)V" } : Jvm.MethodName)) ∈ lw_tbl := lw_at lw_m9 67 rfl
theorem qt2234 : (Jvm.Cond.instanceMethod ({ cls := "RegionHouse$Printer", name := "type", desc := "(I)V" } : Jvm.MethodName)) ∈ lw_tbl := lw_at lw_m9 69 rfl
theorem qt2235 : (Jvm.Cond.code ({ cls := "RegionHouse$Printer", name := "type", desc := "(I)V" } : Jvm.MethodName) prog_7_method_12_code (3 : Nat) (Option.none : Option Jvm.ClassFile.FieldType)) ∈ lw_tbl := lw_at lw_m9 70 rfl
theorem qt2236 : (Jvm.Cond.methodLink "RegionHouse$Printer" (198 : Nat) ({ cls := "RegionHouse$Signs", name := "isFull", desc := "()Z" } : Jvm.MethodName)) ∈ lw_tbl := lw_at lw_m9 71 rfl
theorem qt2237 : (Jvm.Cond.methodLink "RegionHouse$Printer" (202 : Nat) ({ cls := "RegionHouse$Types", name := "kind", desc := "(I)I" } : Jvm.MethodName)) ∈ lw_tbl := lw_at lw_m9 72 rfl
theorem qt2239 : (Jvm.Cond.methodLink "RegionHouse$Printer" (209 : Nat) ({ cls := "RegionHouse$Types", name := "find", desc := "(I)I" } : Jvm.MethodName)) ∈ lw_tbl := lw_at lw_m9 74 rfl
theorem qt2240 : (Jvm.Cond.methodLink "RegionHouse$Printer" (212 : Nat) ({ cls := "RegionHouse$Printer", name := "unknown", desc := "(I)V" } : Jvm.MethodName)) ∈ lw_tbl := lw_at lw_m9 75 rfl
theorem qt2242 : (Jvm.Cond.instanceMethod ({ cls := "RegionHouse$Printer", name := "unknown", desc := "(I)V" } : Jvm.MethodName)) ∈ lw_tbl := lw_at lw_m9 77 rfl
theorem qt2243 : (Jvm.Cond.code ({ cls := "RegionHouse$Printer", name := "unknown", desc := "(I)V" } : Jvm.MethodName) prog_7_method_13_code (3 : Nat) (Option.none : Option Jvm.ClassFile.FieldType)) ∈ lw_tbl := lw_at lw_m9 78 rfl
theorem qt2244 : (Jvm.Cond.methodLink "RegionHouse$Printer" (225 : Nat) ({ cls := "java/util/Arrays", name := "copyOf", desc := "([II)[I" } : Jvm.MethodName)) ∈ lw_tbl := lw_at lw_m9 79 rfl
theorem qt2245 : (Jvm.Cond.methodLink "RegionHouse$Printer" (215 : Nat) ({ cls := "RegionHouse$Types", name := "first", desc := "(I)I" } : Jvm.MethodName)) ∈ lw_tbl := lw_at lw_m9 80 rfl
theorem qt2248 : (Jvm.Cond.methodLink "RegionHouse$Printer" (222 : Nat) ({ cls := "RegionHouse$Types", name := "second", desc := "(I)I" } : Jvm.MethodName)) ∈ lw_tbl := lw_at lw_m9 83 rfl
theorem qt2250 : (Jvm.Cond.methodLink "RegionHouse$Printer" (195 : Nat) ({ cls := "RegionHouse$Typing", name := "result", desc := "(I)I" } : Jvm.MethodName)) ∈ lw_tbl := lw_at lw_m9 85 rfl
theorem qt2251 : (Jvm.Cond.methodLink "RegionHouseLaw" (82 : Nat) ({ cls := "RegionHouseLaw", name := "function", desc := "(LRegionHouse;II[J)I" } : Jvm.MethodName)) ∈ lw_tbl := lw_at lw_m9 86 rfl
theorem qt2252 : (Jvm.Cond.static ({ cls := "RegionHouseLaw", name := "function", desc := "(LRegionHouse;II[J)I" } : Jvm.MethodName)) ∈ lw_tbl := lw_at lw_m9 87 rfl
theorem qt2253 : (Jvm.Cond.codeWith ({ cls := "RegionHouseLaw", name := "function", desc := "(LRegionHouse;II[J)I" } : Jvm.MethodName) method_6_code (5 : Nat) (Option.some Jvm.ClassFile.FieldType.int) [((0 : Nat), (10 : Nat), (13 : Nat), (18 : Nat)), ((0 : Nat), (10 : Nat), (17 : Nat), (24 : Nat))]) ∈ lw_tbl := lw_at lw_m9 88 rfl
theorem qt2254 : (Jvm.Cond.methodLink "RegionHouseLaw" (26 : Nat) ({ cls := "RegionHouse", name := "function", desc := "(II)I" } : Jvm.MethodName)) ∈ lw_tbl := lw_at lw_m9 89 rfl
theorem qt2255 : (Jvm.Cond.instanceMethod ({ cls := "RegionHouse", name := "function", desc := "(II)I" } : Jvm.MethodName)) ∈ lw_tbl := lw_at lw_m9 90 rfl
theorem qt2256 : (Jvm.Cond.selects "RegionHouse" ({ cls := "RegionHouse", name := "function", desc := "(II)I" } : Jvm.MethodName) ({ cls := "RegionHouse", name := "function", desc := "(II)I" } : Jvm.MethodName)) ∈ lw_tbl := lw_at lw_m9 91 rfl
theorem qt2257 : (Jvm.Cond.code ({ cls := "RegionHouse", name := "function", desc := "(II)I" } : Jvm.MethodName) prog_1_method_14_code (3 : Nat) (Option.some Jvm.ClassFile.FieldType.int)) ∈ lw_tbl := lw_at lw_m9 92 rfl
theorem qt2258 : (Jvm.Cond.methodLink "RegionHouse" (208 : Nat) ({ cls := "RegionHouse$Typing", name := "regions", desc := "(I)I" } : Jvm.MethodName)) ∈ lw_tbl := lw_at lw_m9 93 rfl
theorem qt2259 : (Jvm.Cond.methodLink "RegionHouse" (210 : Nat) ({ cls := "RegionHouse$Regions", name := "count", desc := "(I)I" } : Jvm.MethodName)) ∈ lw_tbl := lw_at lw_m9 94 rfl
theorem qt2260 : (Jvm.Cond.methodLink "RegionHouse" (225 : Nat) ({ cls := "RegionHouse$Regions", name := "reached", desc := "(II)I" } : Jvm.MethodName)) ∈ lw_tbl := lw_at lw_m9 95 rfl
theorem qt2261 : (Jvm.Cond.instanceMethod ({ cls := "RegionHouse$Regions", name := "reached", desc := "(II)I" } : Jvm.MethodName)) ∈ lw_tbl := lw_at lw_m9 96 rfl
theorem qt2262 : (Jvm.Cond.selects "RegionHouse$Regions" ({ cls := "RegionHouse$Regions", name := "reached", desc := "(II)I" } : Jvm.MethodName) ({ cls := "RegionHouse$Regions", name := "reached", desc := "(II)I" } : Jvm.MethodName)) ∈ lw_tbl := lw_at lw_m9 97 rfl
theorem qt2263 : (Jvm.Cond.code ({ cls := "RegionHouse$Regions", name := "reached", desc := "(II)I" } : Jvm.MethodName) prog_10_method_9_code (4 : Nat) (Option.some Jvm.ClassFile.FieldType.int)) ∈ lw_tbl := lw_at lw_m9 98 rfl
theorem qt2264 : (Jvm.Cond.methodLink "RegionHouseLaw" (86 : Nat) ({ cls := "RegionHouseLaw", name := "region", desc := "(LRegionHouse;III[J)I" } : Jvm.MethodName)) ∈ lw_tbl := lw_at lw_m9 99 rfl
theorem qt2265 : (Jvm.Cond.static ({ cls := "RegionHouseLaw", name := "region", desc := "(LRegionHouse;III[J)I" } : Jvm.MethodName)) ∈ lw_tbl := lw_at lw_m9 100 rfl
theorem qt2266 : (Jvm.Cond.codeWith ({ cls := "RegionHouseLaw", name := "region", desc := "(LRegionHouse;III[J)I" } : Jvm.MethodName) method_7_code (6 : Nat) (Option.some Jvm.ClassFile.FieldType.int) [((0 : Nat), (12 : Nat), (15 : Nat), (18 : Nat)), ((0 : Nat), (12 : Nat), (19 : Nat), (24 : Nat))]) ∈ lw_tbl := lw_at lw_m9 101 rfl
theorem qt2267 : (Jvm.Cond.methodLink "RegionHouseLaw" (30 : Nat) ({ cls := "RegionHouse", name := "region", desc := "(III)I" } : Jvm.MethodName)) ∈ lw_tbl := lw_at lw_m9 102 rfl
theorem qt2268 : (Jvm.Cond.instanceMethod ({ cls := "RegionHouse", name := "region", desc := "(III)I" } : Jvm.MethodName)) ∈ lw_tbl := lw_at lw_m9 103 rfl
theorem qt2269 : (Jvm.Cond.selects "RegionHouse" ({ cls := "RegionHouse", name := "region", desc := "(III)I" } : Jvm.MethodName) ({ cls := "RegionHouse", name := "region", desc := "(III)I" } : Jvm.MethodName)) ∈ lw_tbl := lw_at lw_m9 104 rfl
theorem qt2270 : (Jvm.Cond.code ({ cls := "RegionHouse", name := "region", desc := "(III)I" } : Jvm.MethodName) prog_1_method_15_code (5 : Nat) (Option.some Jvm.ClassFile.FieldType.int)) ∈ lw_tbl := lw_at lw_m9 105 rfl
theorem qt2271 : (Jvm.Cond.methodLink "RegionHouse" (229 : Nat) ({ cls := "RegionHouse$Regions", name := "box", desc := "(II)I" } : Jvm.MethodName)) ∈ lw_tbl := lw_at lw_m9 106 rfl
theorem qt2272 : (Jvm.Cond.methodLink "RegionHouse" (232 : Nat) ({ cls := "RegionHouse$Types", name := "kind", desc := "(I)I" } : Jvm.MethodName)) ∈ lw_tbl := lw_at lw_m9 107 rfl
theorem qt2273 : (Jvm.Cond.methodLink "RegionHouse" (234 : Nat) ({ cls := "RegionHouse$Regions", name := "owner", desc := "(II)I" } : Jvm.MethodName)) ∈ lw_tbl := lw_at lw_m9 108 rfl
theorem qt2274 : (Jvm.Cond.methodLink "RegionHouse" (240 : Nat) ({ cls := "RegionHouse$Lexemes", name := "start", desc := "(I)I" } : Jvm.MethodName)) ∈ lw_tbl := lw_at lw_m9 109 rfl
