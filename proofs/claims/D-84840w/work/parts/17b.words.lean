theorem qt2275 : (Jvm.Cond.methodLink "RegionHouseLaw" (100 : Nat) ({ cls := "RegionHouseLaw", name := "begin", desc := "(LRegionHouse;)I" } : Jvm.MethodName)) ∈ lw_tbl := lw_at lw_m9 110 rfl
theorem qt2276 : (Jvm.Cond.static ({ cls := "RegionHouseLaw", name := "begin", desc := "(LRegionHouse;)I" } : Jvm.MethodName)) ∈ lw_tbl := lw_at lw_m9 111 rfl
theorem qt2277 : (Jvm.Cond.codeWith ({ cls := "RegionHouseLaw", name := "begin", desc := "(LRegionHouse;)I" } : Jvm.MethodName) method_8_code (2 : Nat) (Option.some Jvm.ClassFile.FieldType.int) [((0 : Nat), (4 : Nat), (7 : Nat), (18 : Nat))]) ∈ lw_tbl := lw_at lw_m9 112 rfl
theorem qt2278 : (Jvm.Cond.methodLink "RegionHouseLaw" (34 : Nat) ({ cls := "RegionHouse", name := "begin", desc := "()V" } : Jvm.MethodName)) ∈ lw_tbl := lw_at lw_m9 113 rfl
theorem qt2279 : (Jvm.Cond.instanceMethod ({ cls := "RegionHouse", name := "begin", desc := "()V" } : Jvm.MethodName)) ∈ lw_tbl := lw_at lw_m9 114 rfl
theorem qt2280 : (Jvm.Cond.selects "RegionHouse" ({ cls := "RegionHouse", name := "begin", desc := "()V" } : Jvm.MethodName) ({ cls := "RegionHouse", name := "begin", desc := "()V" } : Jvm.MethodName)) ∈ lw_tbl := lw_at lw_m9 115 rfl
theorem qt2281 : (Jvm.Cond.code ({ cls := "RegionHouse", name := "begin", desc := "()V" } : Jvm.MethodName) prog_1_method_18_code (1 : Nat) (Option.none : Option Jvm.ClassFile.FieldType)) ∈ lw_tbl := lw_at lw_m9 116 rfl
theorem qt2282 : (Jvm.Cond.methodLink "RegionHouse" (248 : Nat) ({ cls := "RegionHouse$Machine", name := "begin", desc := "()V" } : Jvm.MethodName)) ∈ lw_tbl := lw_at lw_m9 117 rfl
theorem qt2283 : (Jvm.Cond.instanceMethod ({ cls := "RegionHouse$Machine", name := "begin", desc := "()V" } : Jvm.MethodName)) ∈ lw_tbl := lw_at lw_m9 118 rfl
theorem qt2284 : (Jvm.Cond.selects "RegionHouse$Machine" ({ cls := "RegionHouse$Machine", name := "begin", desc := "()V" } : Jvm.MethodName) ({ cls := "RegionHouse$Machine", name := "begin", desc := "()V" } : Jvm.MethodName)) ∈ lw_tbl := lw_at lw_m9 119 rfl
theorem qt2285 : (Jvm.Cond.code ({ cls := "RegionHouse$Machine", name := "begin", desc := "()V" } : Jvm.MethodName) prog_5_method_6_code (2 : Nat) (Option.none : Option Jvm.ClassFile.FieldType)) ∈ lw_tbl := lw_at lw_m9 120 rfl
theorem qt2286 : (Jvm.Cond.methodLink "RegionHouse$Machine" (77 : Nat) ({ cls := "RegionHouse$Machine", name := "stop", desc := "()V" } : Jvm.MethodName)) ∈ lw_tbl := lw_at lw_m9 121 rfl
theorem qt2287 : (Jvm.Cond.methodLink "RegionHouse$Machine" (87 : Nat) ({ cls := "RegionHouse$Code", name := "entry", desc := "(I)I" } : Jvm.MethodName)) ∈ lw_tbl := lw_at lw_m9 122 rfl
theorem qt2288 : (Jvm.Cond.instanceMethod ({ cls := "RegionHouse$Code", name := "entry", desc := "(I)I" } : Jvm.MethodName)) ∈ lw_tbl := lw_at lw_m9 123 rfl
theorem qt2289 : (Jvm.Cond.selects "RegionHouse$Code" ({ cls := "RegionHouse$Code", name := "entry", desc := "(I)I" } : Jvm.MethodName) ({ cls := "RegionHouse$Code", name := "entry", desc := "(I)I" } : Jvm.MethodName)) ∈ lw_tbl := lw_at lw_m9 124 rfl
theorem qt2290 : (Jvm.Cond.code ({ cls := "RegionHouse$Code", name := "entry", desc := "(I)I" } : Jvm.MethodName) prog_2_method_3_code (2 : Nat) (Option.some Jvm.ClassFile.FieldType.int)) ∈ lw_tbl := lw_at lw_m9 125 rfl
theorem qt2291 : (Jvm.Cond.methodLink "RegionHouse$Machine" (102 : Nat) ({ cls := "RegionHouse$Regions", name := "count", desc := "(I)I" } : Jvm.MethodName)) ∈ lw_tbl := lw_at lw_m9 126 rfl
theorem qt2292 : (Jvm.Cond.methodLink "RegionHouse$Machine" (107 : Nat) ({ cls := "RegionHouse$Regions", name := "owner", desc := "(II)I" } : Jvm.MethodName)) ∈ lw_tbl := lw_at lw_m9 127 rfl
theorem qt2293 : (Jvm.Cond.methodLink "RegionHouse$Machine" (111 : Nat) ({ cls := "RegionHouse$Machine", name := "make", desc := "(I)V" } : Jvm.MethodName)) ∈ lw_tbl := lw_at lw_m9 128 rfl
theorem qt2295 : (Jvm.Cond.instanceMethod ({ cls := "RegionHouse$Machine", name := "make", desc := "(I)V" } : Jvm.MethodName)) ∈ lw_tbl := lw_at lw_m9 130 rfl
theorem qt2296 : (Jvm.Cond.code ({ cls := "RegionHouse$Machine", name := "make", desc := "(I)V" } : Jvm.MethodName) prog_5_method_7_code (2 : Nat) (Option.none : Option Jvm.ClassFile.FieldType)) ∈ lw_tbl := lw_at lw_m9 131 rfl
theorem qt2297 : (Jvm.Cond.methodLink "RegionHouse$Machine" (114 : Nat) ({ cls := "RegionHouse$Pool", name := "make", desc := "(II)I" } : Jvm.MethodName)) ∈ lw_tbl := lw_at lw_m9 132 rfl
theorem qt2298 : (Jvm.Cond.instanceMethod ({ cls := "RegionHouse$Pool", name := "make", desc := "(II)I" } : Jvm.MethodName)) ∈ lw_tbl := lw_at lw_m9 133 rfl
theorem qt2299 : (Jvm.Cond.selects "RegionHouse$Pool" ({ cls := "RegionHouse$Pool", name := "make", desc := "(II)I" } : Jvm.MethodName) ({ cls := "RegionHouse$Pool", name := "make", desc := "(II)I" } : Jvm.MethodName)) ∈ lw_tbl := lw_at lw_m9 134 rfl
theorem qt2300 : (Jvm.Cond.code ({ cls := "RegionHouse$Pool", name := "make", desc := "(II)I" } : Jvm.MethodName) prog_6_method_6_code (4 : Nat) (Option.some Jvm.ClassFile.FieldType.int)) ∈ lw_tbl := lw_at lw_m9 135 rfl
theorem qt2301 : (Jvm.Cond.methodLink "RegionHouseLaw" (104 : Nat) ({ cls := "RegionHouseLaw", name := "go", desc := "(LRegionHouse;I[J)I" } : Jvm.MethodName)) ∈ lw_tbl := lw_at lw_m9 136 rfl
theorem qt2302 : (Jvm.Cond.static ({ cls := "RegionHouseLaw", name := "go", desc := "(LRegionHouse;I[J)I" } : Jvm.MethodName)) ∈ lw_tbl := lw_at lw_m9 137 rfl
theorem qt2303 : (Jvm.Cond.codeWith ({ cls := "RegionHouseLaw", name := "go", desc := "(LRegionHouse;I[J)I" } : Jvm.MethodName) method_9_code (4 : Nat) (Option.some Jvm.ClassFile.FieldType.int) [((0 : Nat), (9 : Nat), (12 : Nat), (13 : Nat)), ((0 : Nat), (9 : Nat), (15 : Nat), (18 : Nat))]) ∈ lw_tbl := lw_at lw_m9 138 rfl
theorem qt2304 : (Jvm.Cond.methodLink "RegionHouseLaw" (37 : Nat) ({ cls := "RegionHouse", name := "go", desc := "(I)I" } : Jvm.MethodName)) ∈ lw_tbl := lw_at lw_m9 139 rfl
theorem qt2305 : (Jvm.Cond.instanceMethod ({ cls := "RegionHouse", name := "go", desc := "(I)I" } : Jvm.MethodName)) ∈ lw_tbl := lw_at lw_m9 140 rfl
theorem qt2306 : (Jvm.Cond.selects "RegionHouse" ({ cls := "RegionHouse", name := "go", desc := "(I)I" } : Jvm.MethodName) ({ cls := "RegionHouse", name := "go", desc := "(I)I" } : Jvm.MethodName)) ∈ lw_tbl := lw_at lw_m9 141 rfl
theorem qt2307 : (Jvm.Cond.code ({ cls := "RegionHouse", name := "go", desc := "(I)I" } : Jvm.MethodName) prog_1_method_19_code (2 : Nat) (Option.some Jvm.ClassFile.FieldType.int)) ∈ lw_tbl := lw_at lw_m9 142 rfl
theorem qt2308 : (Jvm.Cond.methodLink "RegionHouse" (254 : Nat) ({ cls := "RegionHouse$Machine", name := "go", desc := "(I)I" } : Jvm.MethodName)) ∈ lw_tbl := lw_at lw_m9 143 rfl
theorem qt2309 : (Jvm.Cond.instanceMethod ({ cls := "RegionHouse$Machine", name := "go", desc := "(I)I" } : Jvm.MethodName)) ∈ lw_tbl := lw_at lw_m9 144 rfl
theorem qt2310 : (Jvm.Cond.selects "RegionHouse$Machine" ({ cls := "RegionHouse$Machine", name := "go", desc := "(I)I" } : Jvm.MethodName) ({ cls := "RegionHouse$Machine", name := "go", desc := "(I)I" } : Jvm.MethodName)) ∈ lw_tbl := lw_at lw_m9 145 rfl
theorem qt2311 : (Jvm.Cond.code ({ cls := "RegionHouse$Machine", name := "go", desc := "(I)I" } : Jvm.MethodName) prog_5_method_9_code (4 : Nat) (Option.some Jvm.ClassFile.FieldType.int)) ∈ lw_tbl := lw_at lw_m9 146 rfl
theorem qt2312 : (Jvm.Cond.methodLink "RegionHouse$Machine" (116 : Nat) ({ cls := "RegionHouse$Code", name := "at", desc := "(I)I" } : Jvm.MethodName)) ∈ lw_tbl := lw_at lw_m9 147 rfl
theorem qt2313 : (Jvm.Cond.instanceMethod ({ cls := "RegionHouse$Code", name := "at", desc := "(I)I" } : Jvm.MethodName)) ∈ lw_tbl := lw_at lw_m9 148 rfl
theorem qt2314 : (Jvm.Cond.selects "RegionHouse$Code" ({ cls := "RegionHouse$Code", name := "at", desc := "(I)I" } : Jvm.MethodName) ({ cls := "RegionHouse$Code", name := "at", desc := "(I)I" } : Jvm.MethodName)) ∈ lw_tbl := lw_at lw_m9 149 rfl
theorem qt2315 : (Jvm.Cond.code ({ cls := "RegionHouse$Code", name := "at", desc := "(I)I" } : Jvm.MethodName) prog_2_method_2_code (2 : Nat) (Option.some Jvm.ClassFile.FieldType.int)) ∈ lw_tbl := lw_at lw_m9 150 rfl
theorem qt2316 : (Jvm.Cond.methodLink "RegionHouse$Machine" (118 : Nat) ({ cls := "RegionHouse$Machine", name := "next", desc := "()I" } : Jvm.MethodName)) ∈ lw_tbl := lw_at lw_m9 151 rfl
theorem qt2318 : (Jvm.Cond.instanceMethod ({ cls := "RegionHouse$Machine", name := "next", desc := "()I" } : Jvm.MethodName)) ∈ lw_tbl := lw_at lw_m9 153 rfl
theorem qt2319 : (Jvm.Cond.code ({ cls := "RegionHouse$Machine", name := "next", desc := "()I" } : Jvm.MethodName) prog_5_method_8_code (1 : Nat) (Option.some Jvm.ClassFile.FieldType.int)) ∈ lw_tbl := lw_at lw_m9 154 rfl
theorem qt2320 : (Jvm.Cond.methodLink "RegionHouse$Machine" (122 : Nat) ({ cls := "RegionHouse$Machine", name := "perform", desc := "(I)V" } : Jvm.MethodName)) ∈ lw_tbl := lw_at lw_m9 155 rfl
theorem qt2322 : (Jvm.Cond.instanceMethod ({ cls := "RegionHouse$Machine", name := "perform", desc := "(I)V" } : Jvm.MethodName)) ∈ lw_tbl := lw_at lw_m9 157 rfl
theorem qt2323 : (Jvm.Cond.code ({ cls := "RegionHouse$Machine", name := "perform", desc := "(I)V" } : Jvm.MethodName) prog_5_method_14_code (4 : Nat) (Option.none : Option Jvm.ClassFile.FieldType)) ∈ lw_tbl := lw_at lw_m9 158 rfl
theorem qt2324 : (Jvm.Cond.methodLink "RegionHouse$Machine" (147 : Nat) ({ cls := "RegionHouse$Pool", name := "isFull", desc := "()Z" } : Jvm.MethodName)) ∈ lw_tbl := lw_at lw_m9 159 rfl
theorem qt2325 : (Jvm.Cond.instanceMethod ({ cls := "RegionHouse$Pool", name := "isFull", desc := "()Z" } : Jvm.MethodName)) ∈ lw_tbl := lw_at lw_m9 160 rfl
theorem qt2326 : (Jvm.Cond.selects "RegionHouse$Pool" ({ cls := "RegionHouse$Pool", name := "isFull", desc := "()Z" } : Jvm.MethodName) ({ cls := "RegionHouse$Pool", name := "isFull", desc := "()Z" } : Jvm.MethodName)) ∈ lw_tbl := lw_at lw_m9 161 rfl
theorem qt2327 : (Jvm.Cond.code ({ cls := "RegionHouse$Pool", name := "isFull", desc := "()Z" } : Jvm.MethodName) prog_6_method_5_code (1 : Nat) (Option.some Jvm.ClassFile.FieldType.boolean)) ∈ lw_tbl := lw_at lw_m9 162 rfl
theorem qt2328 : (Jvm.Cond.methodLink "RegionHouse$Machine" (148 : Nat) ({ cls := "RegionHouse$Pool", name := "leave", desc := "(I)V" } : Jvm.MethodName)) ∈ lw_tbl := lw_at lw_m9 163 rfl
theorem qt2329 : (Jvm.Cond.instanceMethod ({ cls := "RegionHouse$Pool", name := "leave", desc := "(I)V" } : Jvm.MethodName)) ∈ lw_tbl := lw_at lw_m9 164 rfl
theorem qt2330 : (Jvm.Cond.selects "RegionHouse$Pool" ({ cls := "RegionHouse$Pool", name := "leave", desc := "(I)V" } : Jvm.MethodName) ({ cls := "RegionHouse$Pool", name := "leave", desc := "(I)V" } : Jvm.MethodName)) ∈ lw_tbl := lw_at lw_m9 165 rfl
theorem qt2331 : (Jvm.Cond.code ({ cls := "RegionHouse$Pool", name := "leave", desc := "(I)V" } : Jvm.MethodName) prog_6_method_8_code (3 : Nat) (Option.none : Option Jvm.ClassFile.FieldType)) ∈ lw_tbl := lw_at lw_m9 166 rfl
theorem qt2332 : (Jvm.Cond.methodLink "RegionHouse$Machine" (142 : Nat) ({ cls := "RegionHouse$Machine", name := "push", desc := "(II)V" } : Jvm.MethodName)) ∈ lw_tbl := lw_at lw_m9 167 rfl
theorem qt2334 : (Jvm.Cond.instanceMethod ({ cls := "RegionHouse$Machine", name := "push", desc := "(II)V" } : Jvm.MethodName)) ∈ lw_tbl := lw_at lw_m9 169 rfl
theorem qt2335 : (Jvm.Cond.code ({ cls := "RegionHouse$Machine", name := "push", desc := "(II)V" } : Jvm.MethodName) prog_5_method_10_code (3 : Nat) (Option.none : Option Jvm.ClassFile.FieldType)) ∈ lw_tbl := lw_at lw_m9 170 rfl
theorem qt2336 : (Jvm.Cond.methodLink "RegionHouse$Machine" (125 : Nat) ({ cls := "RegionHouse$Stack", name := "isFull", desc := "()Z" } : Jvm.MethodName)) ∈ lw_tbl := lw_at lw_m9 171 rfl
theorem qt2337 : (Jvm.Cond.instanceMethod ({ cls := "RegionHouse$Stack", name := "isFull", desc := "()Z" } : Jvm.MethodName)) ∈ lw_tbl := lw_at lw_m9 172 rfl
theorem qt2338 : (Jvm.Cond.selects "RegionHouse$Stack" ({ cls := "RegionHouse$Stack", name := "isFull", desc := "()Z" } : Jvm.MethodName) ({ cls := "RegionHouse$Stack", name := "isFull", desc := "()Z" } : Jvm.MethodName)) ∈ lw_tbl := lw_at lw_m9 173 rfl
theorem qt2339 : (Jvm.Cond.code ({ cls := "RegionHouse$Stack", name := "isFull", desc := "()Z" } : Jvm.MethodName) prog_12_method_4_code (1 : Nat) (Option.some Jvm.ClassFile.FieldType.boolean)) ∈ lw_tbl := lw_at lw_m9 174 rfl
theorem qt2340 : (Jvm.Cond.methodLink "RegionHouse$Machine" (129 : Nat) ({ cls := "RegionHouse$Stack", name := "push", desc := "(II)V" } : Jvm.MethodName)) ∈ lw_tbl := lw_at lw_m9 175 rfl
theorem qt2341 : (Jvm.Cond.instanceMethod ({ cls := "RegionHouse$Stack", name := "push", desc := "(II)V" } : Jvm.MethodName)) ∈ lw_tbl := lw_at lw_m9 176 rfl
theorem qt2342 : (Jvm.Cond.selects "RegionHouse$Stack" ({ cls := "RegionHouse$Stack", name := "push", desc := "(II)V" } : Jvm.MethodName) ({ cls := "RegionHouse$Stack", name := "push", desc := "(II)V" } : Jvm.MethodName)) ∈ lw_tbl := lw_at lw_m9 177 rfl
theorem qt2343 : (Jvm.Cond.code ({ cls := "RegionHouse$Stack", name := "push", desc := "(II)V" } : Jvm.MethodName) prog_12_method_5_code (3 : Nat) (Option.none : Option Jvm.ClassFile.FieldType)) ∈ lw_tbl := lw_at lw_m9 178 rfl
theorem qt2344 : (Jvm.Cond.methodLink "RegionHouse$Machine" (151 : Nat) ({ cls := "RegionHouse$Machine", name := "copy", desc := "(I)V" } : Jvm.MethodName)) ∈ lw_tbl := lw_at lw_m9 179 rfl
theorem qt2346 : (Jvm.Cond.instanceMethod ({ cls := "RegionHouse$Machine", name := "copy", desc := "(I)V" } : Jvm.MethodName)) ∈ lw_tbl := lw_at lw_m9 181 rfl
theorem qt2347 : (Jvm.Cond.code ({ cls := "RegionHouse$Machine", name := "copy", desc := "(I)V" } : Jvm.MethodName) prog_5_method_12_code (2 : Nat) (Option.none : Option Jvm.ClassFile.FieldType)) ∈ lw_tbl := lw_at lw_m9 182 rfl
theorem qt2348 : (Jvm.Cond.methodLink "RegionHouse$Machine" (136 : Nat) ({ cls := "RegionHouse$Stack", name := "value", desc := "(I)I" } : Jvm.MethodName)) ∈ lw_tbl := lw_at lw_m9 183 rfl
theorem qt2349 : (Jvm.Cond.methodLink "RegionHouse$Machine" (139 : Nat) ({ cls := "RegionHouse$Stack", name := "sort", desc := "(I)I" } : Jvm.MethodName)) ∈ lw_tbl := lw_at lw_m9 184 rfl
theorem qt2350 : (Jvm.Cond.methodLink "RegionHouse$Machine" (154 : Nat) ({ cls := "RegionHouse$Machine", name := "load", desc := "(I)V" } : Jvm.MethodName)) ∈ lw_tbl := lw_at lw_m9 185 rfl
theorem qt2352 : (Jvm.Cond.instanceMethod ({ cls := "RegionHouse$Machine", name := "load", desc := "(I)V" } : Jvm.MethodName)) ∈ lw_tbl := lw_at lw_m9 187 rfl
theorem qt2353 : (Jvm.Cond.code ({ cls := "RegionHouse$Machine", name := "load", desc := "(I)V" } : Jvm.MethodName) prog_5_method_13_code (2 : Nat) (Option.none : Option Jvm.ClassFile.FieldType)) ∈ lw_tbl := lw_at lw_m9 188 rfl
theorem qt2354 : (Jvm.Cond.methodLink "RegionHouse$Machine" (143 : Nat) ({ cls := "RegionHouse$Pool", name := "word", desc := "(I)I" } : Jvm.MethodName)) ∈ lw_tbl := lw_at lw_m9 189 rfl
theorem qt2355 : (Jvm.Cond.instanceMethod ({ cls := "RegionHouse$Pool", name := "word", desc := "(I)I" } : Jvm.MethodName)) ∈ lw_tbl := lw_at lw_m9 190 rfl
theorem qt2356 : (Jvm.Cond.selects "RegionHouse$Pool" ({ cls := "RegionHouse$Pool", name := "word", desc := "(I)I" } : Jvm.MethodName) ({ cls := "RegionHouse$Pool", name := "word", desc := "(I)I" } : Jvm.MethodName)) ∈ lw_tbl := lw_at lw_m9 191 rfl
theorem qt2357 : (Jvm.Cond.code ({ cls := "RegionHouse$Pool", name := "word", desc := "(I)I" } : Jvm.MethodName) prog_6_method_15_code (2 : Nat) (Option.some Jvm.ClassFile.FieldType.int)) ∈ lw_tbl := lw_at lw_m9 192 rfl
theorem qt2358 : (Jvm.Cond.methodLink "RegionHouse$Machine" (146 : Nat) ({ cls := "RegionHouse$Pool", name := "sort", desc := "(I)I" } : Jvm.MethodName)) ∈ lw_tbl := lw_at lw_m9 193 rfl
theorem qt2359 : (Jvm.Cond.instanceMethod ({ cls := "RegionHouse$Pool", name := "sort", desc := "(I)I" } : Jvm.MethodName)) ∈ lw_tbl := lw_at lw_m9 194 rfl
theorem qt2360 : (Jvm.Cond.selects "RegionHouse$Pool" ({ cls := "RegionHouse$Pool", name := "sort", desc := "(I)I" } : Jvm.MethodName) ({ cls := "RegionHouse$Pool", name := "sort", desc := "(I)I" } : Jvm.MethodName)) ∈ lw_tbl := lw_at lw_m9 195 rfl
theorem qt2361 : (Jvm.Cond.code ({ cls := "RegionHouse$Pool", name := "sort", desc := "(I)I" } : Jvm.MethodName) prog_6_method_16_code (2 : Nat) (Option.some Jvm.ClassFile.FieldType.int)) ∈ lw_tbl := lw_at lw_m9 196 rfl
theorem qt2362 : (Jvm.Cond.methodLink "RegionHouse$Machine" (157 : Nat) ({ cls := "RegionHouse$Machine", name := "two", desc := "(I)V" } : Jvm.MethodName)) ∈ lw_tbl := lw_at lw_m9 197 rfl
theorem qt2364 : (Jvm.Cond.instanceMethod ({ cls := "RegionHouse$Machine", name := "two", desc := "(I)V" } : Jvm.MethodName)) ∈ lw_tbl := lw_at lw_m9 199 rfl
theorem qt2365 : (Jvm.Cond.code ({ cls := "RegionHouse$Machine", name := "two", desc := "(I)V" } : Jvm.MethodName) prog_5_method_18_code (3 : Nat) (Option.none : Option Jvm.ClassFile.FieldType)) ∈ lw_tbl := lw_at lw_m9 200 rfl
theorem qt2366 : (Jvm.Cond.methodLink "RegionHouse$Machine" (200 : Nat) ({ cls := "RegionHouse$Machine", name := "room", desc := "(II)I" } : Jvm.MethodName)) ∈ lw_tbl := lw_at lw_m9 201 rfl
theorem qt2368 : (Jvm.Cond.instanceMethod ({ cls := "RegionHouse$Machine", name := "room", desc := "(II)I" } : Jvm.MethodName)) ∈ lw_tbl := lw_at lw_m9 203 rfl
theorem qt2369 : (Jvm.Cond.code ({ cls := "RegionHouse$Machine", name := "room", desc := "(II)I" } : Jvm.MethodName) prog_5_method_17_code (4 : Nat) (Option.some Jvm.ClassFile.FieldType.int)) ∈ lw_tbl := lw_at lw_m9 204 rfl
theorem qt2370 : (Jvm.Cond.methodLink "RegionHouse$Machine" (194 : Nat) ({ cls := "RegionHouse$Pool", name := "put", desc := "(III)I" } : Jvm.MethodName)) ∈ lw_tbl := lw_at lw_m9 205 rfl
theorem qt2371 : (Jvm.Cond.instanceMethod ({ cls := "RegionHouse$Pool", name := "put", desc := "(III)I" } : Jvm.MethodName)) ∈ lw_tbl := lw_at lw_m9 206 rfl
theorem qt2372 : (Jvm.Cond.selects "RegionHouse$Pool" ({ cls := "RegionHouse$Pool", name := "put", desc := "(III)I" } : Jvm.MethodName) ({ cls := "RegionHouse$Pool", name := "put", desc := "(III)I" } : Jvm.MethodName)) ∈ lw_tbl := lw_at lw_m9 207 rfl
theorem qt2373 : (Jvm.Cond.code ({ cls := "RegionHouse$Pool", name := "put", desc := "(III)I" } : Jvm.MethodName) prog_6_method_13_code (4 : Nat) (Option.some Jvm.ClassFile.FieldType.int)) ∈ lw_tbl := lw_at lw_m9 208 rfl
theorem qt2374 : (Jvm.Cond.methodLink "RegionHouse$Pool" (112 : Nat) ({ cls := "RegionHouse$Pool", name := "collectOnce", desc := "()Z" } : Jvm.MethodName)) ∈ lw_tbl := lw_at lw_m9 209 rfl
theorem qt2376 : (Jvm.Cond.instanceMethod ({ cls := "RegionHouse$Pool", name := "collectOnce", desc := "()Z" } : Jvm.MethodName)) ∈ lw_tbl := lw_at lw_m9 211 rfl
theorem qt2377 : (Jvm.Cond.code ({ cls := "RegionHouse$Pool", name := "collectOnce", desc := "()Z" } : Jvm.MethodName) prog_6_method_18_code (1 : Nat) (Option.some Jvm.ClassFile.FieldType.boolean)) ∈ lw_tbl := lw_at lw_m9 212 rfl
theorem qt2378 : (Jvm.Cond.constant "RegionHouse$Pool" (131 : Nat) (50000 : Int32)) ∈ lw_tbl := lw_at lw_m9 213 rfl
theorem qt2379 : (Jvm.Cond.methodLink "RegionHouse$Pool" (132 : Nat) ({ cls := "RegionHouse$Pool", name := "collect", desc := "()Z" } : Jvm.MethodName)) ∈ lw_tbl := lw_at lw_m9 214 rfl
theorem qt2380 : (Jvm.Cond.methodLink "RegionHouse$Machine" (197 : Nat) ({ cls := "RegionHouse$Pool", name := "isWorn", desc := "()Z" } : Jvm.MethodName)) ∈ lw_tbl := lw_at lw_m9 215 rfl
theorem qt2381 : (Jvm.Cond.instanceMethod ({ cls := "RegionHouse$Pool", name := "isWorn", desc := "()Z" } : Jvm.MethodName)) ∈ lw_tbl := lw_at lw_m9 216 rfl
theorem qt2382 : (Jvm.Cond.selects "RegionHouse$Pool" ({ cls := "RegionHouse$Pool", name := "isWorn", desc := "()Z" } : Jvm.MethodName) ({ cls := "RegionHouse$Pool", name := "isWorn", desc := "()Z" } : Jvm.MethodName)) ∈ lw_tbl := lw_at lw_m9 217 rfl
theorem qt2383 : (Jvm.Cond.code ({ cls := "RegionHouse$Pool", name := "isWorn", desc := "()Z" } : Jvm.MethodName) prog_6_method_19_code (1 : Nat) (Option.some Jvm.ClassFile.FieldType.boolean)) ∈ lw_tbl := lw_at lw_m9 218 rfl
theorem qt2384 : (Jvm.Cond.methodLink "RegionHouse$Machine" (203 : Nat) ({ cls := "RegionHouse$Pool", name := "set", desc := "(III)V" } : Jvm.MethodName)) ∈ lw_tbl := lw_at lw_m9 219 rfl
theorem qt2385 : (Jvm.Cond.methodLink "RegionHouse$Machine" (166 : Nat) ({ cls := "RegionHouse$Machine", name := "top", desc := "()I" } : Jvm.MethodName)) ∈ lw_tbl := lw_at lw_m9 220 rfl
theorem qt2387 : (Jvm.Cond.instanceMethod ({ cls := "RegionHouse$Machine", name := "top", desc := "()I" } : Jvm.MethodName)) ∈ lw_tbl := lw_at lw_m9 222 rfl
theorem qt2388 : (Jvm.Cond.code ({ cls := "RegionHouse$Machine", name := "top", desc := "()I" } : Jvm.MethodName) prog_5_method_11_code (1 : Nat) (Option.some Jvm.ClassFile.FieldType.int)) ∈ lw_tbl := lw_at lw_m9 223 rfl
theorem qt2389 : (Jvm.Cond.methodLink "RegionHouse$Machine" (169 : Nat) ({ cls := "RegionHouse$Stack", name := "drop", desc := "(I)V" } : Jvm.MethodName)) ∈ lw_tbl := lw_at lw_m9 224 rfl
theorem qt2390 : (Jvm.Cond.instanceMethod ({ cls := "RegionHouse$Stack", name := "drop", desc := "(I)V" } : Jvm.MethodName)) ∈ lw_tbl := lw_at lw_m9 225 rfl
theorem qt2391 : (Jvm.Cond.selects "RegionHouse$Stack" ({ cls := "RegionHouse$Stack", name := "drop", desc := "(I)V" } : Jvm.MethodName) ({ cls := "RegionHouse$Stack", name := "drop", desc := "(I)V" } : Jvm.MethodName)) ∈ lw_tbl := lw_at lw_m9 226 rfl
theorem qt2392 : (Jvm.Cond.code ({ cls := "RegionHouse$Stack", name := "drop", desc := "(I)V" } : Jvm.MethodName) prog_12_method_10_code (2 : Nat) (Option.none : Option Jvm.ClassFile.FieldType)) ∈ lw_tbl := lw_at lw_m9 227 rfl
theorem qt2393 : (Jvm.Cond.methodLink "RegionHouse$Machine" (160 : Nat) ({ cls := "RegionHouse$Machine", name := "closure", desc := "()V" } : Jvm.MethodName)) ∈ lw_tbl := lw_at lw_m9 228 rfl
theorem qt2395 : (Jvm.Cond.instanceMethod ({ cls := "RegionHouse$Machine", name := "closure", desc := "()V" } : Jvm.MethodName)) ∈ lw_tbl := lw_at lw_m9 230 rfl
theorem qt2396 : (Jvm.Cond.code ({ cls := "RegionHouse$Machine", name := "closure", desc := "()V" } : Jvm.MethodName) prog_5_method_20_code (9 : Nat) (Option.none : Option Jvm.ClassFile.FieldType)) ∈ lw_tbl := lw_at lw_m9 231 rfl
theorem qt2397 : (Jvm.Cond.methodLink "RegionHouse$Machine" (208 : Nat) ({ cls := "RegionHouse$Code", name := "words", desc := "(I)I" } : Jvm.MethodName)) ∈ lw_tbl := lw_at lw_m9 232 rfl
theorem qt2398 : (Jvm.Cond.methodLink "RegionHouse$Machine" (214 : Nat) ({ cls := "RegionHouse$Regions", name := "kept", desc := "(I)I" } : Jvm.MethodName)) ∈ lw_tbl := lw_at lw_m9 233 rfl
theorem qt2399 : (Jvm.Cond.methodLink "RegionHouse$Machine" (217 : Nat) ({ cls := "RegionHouse$Regions", name := "kept", desc := "(II)I" } : Jvm.MethodName)) ∈ lw_tbl := lw_at lw_m9 234 rfl
theorem qt2400 : (Jvm.Cond.methodLink "RegionHouse$Machine" (163 : Nat) ({ cls := "RegionHouse$Machine", name := "part", desc := "(I)V" } : Jvm.MethodName)) ∈ lw_tbl := lw_at lw_m9 235 rfl
theorem qt2402 : (Jvm.Cond.instanceMethod ({ cls := "RegionHouse$Machine", name := "part", desc := "(I)V" } : Jvm.MethodName)) ∈ lw_tbl := lw_at lw_m9 237 rfl
theorem qt2403 : (Jvm.Cond.code ({ cls := "RegionHouse$Machine", name := "part", desc := "(I)V" } : Jvm.MethodName) prog_5_method_19_code (3 : Nat) (Option.none : Option Jvm.ClassFile.FieldType)) ∈ lw_tbl := lw_at lw_m9 238 rfl
theorem qt2404 : (Jvm.Cond.methodLink "RegionHouse$Machine" (207 : Nat) ({ cls := "RegionHouse$Stack", name := "set", desc := "(III)V" } : Jvm.MethodName)) ∈ lw_tbl := lw_at lw_m9 239 rfl
theorem qt2405 : (Jvm.Cond.methodLink "RegionHouse$Machine" (172 : Nat) ({ cls := "RegionHouse$Machine", name := "cases", desc := "(I)V" } : Jvm.MethodName)) ∈ lw_tbl := lw_at lw_m10 0 rfl
theorem qt2407 : (Jvm.Cond.instanceMethod ({ cls := "RegionHouse$Machine", name := "cases", desc := "(I)V" } : Jvm.MethodName)) ∈ lw_tbl := lw_at lw_m10 2 rfl
theorem qt2408 : (Jvm.Cond.code ({ cls := "RegionHouse$Machine", name := "cases", desc := "(I)V" } : Jvm.MethodName) prog_5_method_21_code (4 : Nat) (Option.none : Option Jvm.ClassFile.FieldType)) ∈ lw_tbl := lw_at lw_m10 3 rfl
theorem qt2409 : (Jvm.Cond.methodLink "RegionHouse$Machine" (175 : Nat) ({ cls := "RegionHouse$Stack", name := "slide", desc := "(I)V" } : Jvm.MethodName)) ∈ lw_tbl := lw_at lw_m10 4 rfl
theorem qt2410 : (Jvm.Cond.instanceMethod ({ cls := "RegionHouse$Stack", name := "slide", desc := "(I)V" } : Jvm.MethodName)) ∈ lw_tbl := lw_at lw_m10 5 rfl
theorem qt2411 : (Jvm.Cond.selects "RegionHouse$Stack" ({ cls := "RegionHouse$Stack", name := "slide", desc := "(I)V" } : Jvm.MethodName) ({ cls := "RegionHouse$Stack", name := "slide", desc := "(I)V" } : Jvm.MethodName)) ∈ lw_tbl := lw_at lw_m10 6 rfl
theorem qt2412 : (Jvm.Cond.code ({ cls := "RegionHouse$Stack", name := "slide", desc := "(I)V" } : Jvm.MethodName) prog_12_method_9_code (2 : Nat) (Option.none : Option Jvm.ClassFile.FieldType)) ∈ lw_tbl := lw_at lw_m10 7 rfl
theorem qt2413 : (Jvm.Cond.methodLink "RegionHouse$Stack" (21 : Nat) ({ cls := "RegionHouse$Stack", name := "set", desc := "(III)V" } : Jvm.MethodName)) ∈ lw_tbl := lw_at lw_m10 8 rfl
theorem qt2414 : (Jvm.Cond.methodLink "RegionHouse$Machine" (178 : Nat) ({ cls := "RegionHouse$Machine", name := "call", desc := "(I)V" } : Jvm.MethodName)) ∈ lw_tbl := lw_at lw_m10 9 rfl
theorem qt2416 : (Jvm.Cond.instanceMethod ({ cls := "RegionHouse$Machine", name := "call", desc := "(I)V" } : Jvm.MethodName)) ∈ lw_tbl := lw_at lw_m10 11 rfl
theorem qt2417 : (Jvm.Cond.code ({ cls := "RegionHouse$Machine", name := "call", desc := "(I)V" } : Jvm.MethodName) prog_5_method_23_code (7 : Nat) (Option.none : Option Jvm.ClassFile.FieldType)) ∈ lw_tbl := lw_at lw_m10 12 rfl
theorem qt2418 : (Jvm.Cond.methodLink "RegionHouse$Machine" (219 : Nat) ({ cls := "RegionHouse$Machine", name := "enter", desc := "()I" } : Jvm.MethodName)) ∈ lw_tbl := lw_at lw_m10 13 rfl
theorem qt2420 : (Jvm.Cond.instanceMethod ({ cls := "RegionHouse$Machine", name := "enter", desc := "()I" } : Jvm.MethodName)) ∈ lw_tbl := lw_at lw_m10 15 rfl
theorem qt2421 : (Jvm.Cond.code ({ cls := "RegionHouse$Machine", name := "enter", desc := "()I" } : Jvm.MethodName) prog_5_method_22_code (1 : Nat) (Option.some Jvm.ClassFile.FieldType.int)) ∈ lw_tbl := lw_at lw_m10 16 rfl
theorem qt2422 : (Jvm.Cond.methodLink "RegionHouse$Machine" (181 : Nat) ({ cls := "RegionHouse$Machine", name := "apply", desc := "()V" } : Jvm.MethodName)) ∈ lw_tbl := lw_at lw_m10 17 rfl
theorem qt2424 : (Jvm.Cond.instanceMethod ({ cls := "RegionHouse$Machine", name := "apply", desc := "()V" } : Jvm.MethodName)) ∈ lw_tbl := lw_at lw_m10 19 rfl
theorem qt2425 : (Jvm.Cond.code ({ cls := "RegionHouse$Machine", name := "apply", desc := "()V" } : Jvm.MethodName) prog_5_method_24_code (5 : Nat) (Option.none : Option Jvm.ClassFile.FieldType)) ∈ lw_tbl := lw_at lw_m10 20 rfl
theorem qt2426 : (Jvm.Cond.methodLink "RegionHouse$Machine" (225 : Nat) ({ cls := "RegionHouse$Code", name := "fnFunction", desc := "(I)I" } : Jvm.MethodName)) ∈ lw_tbl := lw_at lw_m10 21 rfl
theorem qt2427 : (Jvm.Cond.instanceMethod ({ cls := "RegionHouse$Code", name := "fnFunction", desc := "(I)I" } : Jvm.MethodName)) ∈ lw_tbl := lw_at lw_m10 22 rfl
theorem qt2428 : (Jvm.Cond.selects "RegionHouse$Code" ({ cls := "RegionHouse$Code", name := "fnFunction", desc := "(I)I" } : Jvm.MethodName) ({ cls := "RegionHouse$Code", name := "fnFunction", desc := "(I)I" } : Jvm.MethodName)) ∈ lw_tbl := lw_at lw_m10 23 rfl
theorem qt2429 : (Jvm.Cond.code ({ cls := "RegionHouse$Code", name := "fnFunction", desc := "(I)I" } : Jvm.MethodName) prog_2_method_5_code (2 : Nat) (Option.some Jvm.ClassFile.FieldType.int)) ∈ lw_tbl := lw_at lw_m10 24 rfl
theorem qt2430 : (Jvm.Cond.methodLink "RegionHouse$Machine" (228 : Nat) ({ cls := "RegionHouse$Code", name := "fnEntry", desc := "(I)I" } : Jvm.MethodName)) ∈ lw_tbl := lw_at lw_m10 25 rfl
theorem qt2431 : (Jvm.Cond.instanceMethod ({ cls := "RegionHouse$Code", name := "fnEntry", desc := "(I)I" } : Jvm.MethodName)) ∈ lw_tbl := lw_at lw_m10 26 rfl
theorem qt2432 : (Jvm.Cond.selects "RegionHouse$Code" ({ cls := "RegionHouse$Code", name := "fnEntry", desc := "(I)I" } : Jvm.MethodName) ({ cls := "RegionHouse$Code", name := "fnEntry", desc := "(I)I" } : Jvm.MethodName)) ∈ lw_tbl := lw_at lw_m10 27 rfl
theorem qt2433 : (Jvm.Cond.code ({ cls := "RegionHouse$Code", name := "fnEntry", desc := "(I)I" } : Jvm.MethodName) prog_2_method_4_code (2 : Nat) (Option.some Jvm.ClassFile.FieldType.int)) ∈ lw_tbl := lw_at lw_m10 28 rfl
theorem qt2434 : (Jvm.Cond.methodLink "RegionHouse$Machine" (184 : Nat) ({ cls := "RegionHouse$Machine", name := "back", desc := "()V" } : Jvm.MethodName)) ∈ lw_tbl := lw_at lw_m10 29 rfl
theorem qt2436 : (Jvm.Cond.instanceMethod ({ cls := "RegionHouse$Machine", name := "back", desc := "()V" } : Jvm.MethodName)) ∈ lw_tbl := lw_at lw_m10 31 rfl
theorem qt2437 : (Jvm.Cond.code ({ cls := "RegionHouse$Machine", name := "back", desc := "()V" } : Jvm.MethodName) prog_5_method_25_code (1 : Nat) (Option.none : Option Jvm.ClassFile.FieldType)) ∈ lw_tbl := lw_at lw_m10 32 rfl
theorem qt2438 : (Jvm.Cond.methodLink "RegionHouse$Machine" (187 : Nat) ({ cls := "RegionHouse$Machine", name := "reckon", desc := "(I)V" } : Jvm.MethodName)) ∈ lw_tbl := lw_at lw_m10 33 rfl
theorem qt2440 : (Jvm.Cond.instanceMethod ({ cls := "RegionHouse$Machine", name := "reckon", desc := "(I)V" } : Jvm.MethodName)) ∈ lw_tbl := lw_at lw_m10 35 rfl
theorem qt2441 : (Jvm.Cond.code ({ cls := "RegionHouse$Machine", name := "reckon", desc := "(I)V" } : Jvm.MethodName) prog_5_method_15_code (4 : Nat) (Option.none : Option Jvm.ClassFile.FieldType)) ∈ lw_tbl := lw_at lw_m10 36 rfl
theorem qt2442 : (Jvm.Cond.methodLink "RegionHouse$Machine" (190 : Nat) ({ cls := "RegionHouse$Machine", name := "result", desc := "(III)I" } : Jvm.MethodName)) ∈ lw_tbl := lw_at lw_m10 37 rfl
theorem qt2443 : (Jvm.Cond.static ({ cls := "RegionHouse$Machine", name := "result", desc := "(III)I" } : Jvm.MethodName)) ∈ lw_tbl := lw_at lw_m10 38 rfl
theorem qt2444 : (Jvm.Cond.code ({ cls := "RegionHouse$Machine", name := "result", desc := "(III)I" } : Jvm.MethodName) prog_5_method_16_code (3 : Nat) (Option.some Jvm.ClassFile.FieldType.int)) ∈ lw_tbl := lw_at lw_m10 39 rfl
theorem qt2445 : (Jvm.Cond.methodLink "RegionHouseLaw" (127 : Nat) ({ cls := "RegionHouseLaw", name := "show", desc := "(LRegionHouse;[J)I" } : Jvm.MethodName)) ∈ lw_tbl := lw_at lw_m10 40 rfl
theorem qt2446 : (Jvm.Cond.static ({ cls := "RegionHouseLaw", name := "show", desc := "(LRegionHouse;[J)I" } : Jvm.MethodName)) ∈ lw_tbl := lw_at lw_m10 41 rfl
theorem qt2447 : (Jvm.Cond.codeWith ({ cls := "RegionHouseLaw", name := "show", desc := "(LRegionHouse;[J)I" } : Jvm.MethodName) method_10_code (3 : Nat) (Option.some Jvm.ClassFile.FieldType.int) [((0 : Nat), (8 : Nat), (11 : Nat), (18 : Nat))]) ∈ lw_tbl := lw_at lw_m10 42 rfl
theorem qt2448 : (Jvm.Cond.methodLink "RegionHouseLaw" (40 : Nat) ({ cls := "RegionHouse", name := "show", desc := "()I" } : Jvm.MethodName)) ∈ lw_tbl := lw_at lw_m10 43 rfl
theorem qt2449 : (Jvm.Cond.instanceMethod ({ cls := "RegionHouse", name := "show", desc := "()I" } : Jvm.MethodName)) ∈ lw_tbl := lw_at lw_m10 44 rfl
theorem qt2450 : (Jvm.Cond.selects "RegionHouse" ({ cls := "RegionHouse", name := "show", desc := "()I" } : Jvm.MethodName) ({ cls := "RegionHouse", name := "show", desc := "()I" } : Jvm.MethodName)) ∈ lw_tbl := lw_at lw_m10 45 rfl
theorem qt2451 : (Jvm.Cond.code ({ cls := "RegionHouse", name := "show", desc := "()I" } : Jvm.MethodName) prog_1_method_25_code (1 : Nat) (Option.some Jvm.ClassFile.FieldType.int)) ∈ lw_tbl := lw_at lw_m10 46 rfl
theorem qt2452 : (Jvm.Cond.methodLink "RegionHouse" (263 : Nat) ({ cls := "RegionHouse$Machine", name := "show", desc := "(LRegionHouse$Signs;)V" } : Jvm.MethodName)) ∈ lw_tbl := lw_at lw_m10 47 rfl
theorem qt2453 : (Jvm.Cond.instanceMethod ({ cls := "RegionHouse$Machine", name := "show", desc := "(LRegionHouse$Signs;)V" } : Jvm.MethodName)) ∈ lw_tbl := lw_at lw_m10 48 rfl
theorem qt2454 : (Jvm.Cond.selects "RegionHouse$Machine" ({ cls := "RegionHouse$Machine", name := "show", desc := "(LRegionHouse$Signs;)V" } : Jvm.MethodName) ({ cls := "RegionHouse$Machine", name := "show", desc := "(LRegionHouse$Signs;)V" } : Jvm.MethodName)) ∈ lw_tbl := lw_at lw_m10 49 rfl
theorem qt2455 : (Jvm.Cond.code ({ cls := "RegionHouse$Machine", name := "show", desc := "(LRegionHouse$Signs;)V" } : Jvm.MethodName) prog_5_method_29_code (2 : Nat) (Option.none : Option Jvm.ClassFile.FieldType)) ∈ lw_tbl := lw_at lw_m10 50 rfl
theorem qt2456 : (Jvm.Cond.methodLink "RegionHouse$Machine" (241 : Nat) ({ cls := "RegionHouse$Signs", name := "clear", desc := "()V" } : Jvm.MethodName)) ∈ lw_tbl := lw_at lw_m10 51 rfl
theorem qt2457 : (Jvm.Cond.methodLink "RegionHouse$Machine" (244 : Nat) ({ cls := "RegionHouse$Machine", name := "value", desc := "(IILRegionHouse$Signs;)V" } : Jvm.MethodName)) ∈ lw_tbl := lw_at lw_m10 52 rfl
theorem qt2459 : (Jvm.Cond.instanceMethod ({ cls := "RegionHouse$Machine", name := "value", desc := "(IILRegionHouse$Signs;)V" } : Jvm.MethodName)) ∈ lw_tbl := lw_at lw_m10 54 rfl
theorem qt2460 : (Jvm.Cond.code ({ cls := "RegionHouse$Machine", name := "value", desc := "(IILRegionHouse$Signs;)V" } : Jvm.MethodName) prog_5_method_30_code (4 : Nat) (Option.none : Option Jvm.ClassFile.FieldType)) ∈ lw_tbl := lw_at lw_m10 55 rfl
theorem qt2461 : (Jvm.Cond.methodLink "RegionHouse$Machine" (247 : Nat) ({ cls := "RegionHouse$Signs", name := "isFull", desc := "()Z" } : Jvm.MethodName)) ∈ lw_tbl := lw_at lw_m10 56 rfl
theorem qt2462 : (Jvm.Cond.methodLink "RegionHouse$Machine" (248 : Nat) ({ cls := "RegionHouse$Signs", name := "addNumber", desc := "(I)V" } : Jvm.MethodName)) ∈ lw_tbl := lw_at lw_m10 57 rfl
theorem qt2463 : (Jvm.Cond.methodLink "RegionHouse$Machine" (251 : Nat) ({ cls := "RegionHouse$Machine", name := "list", desc := "(IILRegionHouse$Signs;)V" } : Jvm.MethodName)) ∈ lw_tbl := lw_at lw_m10 58 rfl
theorem qt2465 : (Jvm.Cond.instanceMethod ({ cls := "RegionHouse$Machine", name := "list", desc := "(IILRegionHouse$Signs;)V" } : Jvm.MethodName)) ∈ lw_tbl := lw_at lw_m10 60 rfl
theorem qt2466 : (Jvm.Cond.code ({ cls := "RegionHouse$Machine", name := "list", desc := "(IILRegionHouse$Signs;)V" } : Jvm.MethodName) prog_5_method_31_code (6 : Nat) (Option.none : Option Jvm.ClassFile.FieldType)) ∈ lw_tbl := lw_at lw_m10 61 rfl
theorem qt2467 : (Jvm.Cond.methodLink "RegionHouse$Machine" (254 : Nat) ({ cls := "RegionHouse$Signs", name := "add", desc := "(I)V" } : Jvm.MethodName)) ∈ lw_tbl := lw_at lw_m10 62 rfl
theorem qt2469 : (Jvm.Cond.methodLink "RegionHouse$Machine" (259 : Nat) ({ cls := "RegionHouse$Signs", name := "add", desc := "(Ljava/lang/String;)V" } : Jvm.MethodName)) ∈ lw_tbl := lw_at lw_m10 64 rfl
theorem qt2471 : (Jvm.Cond.classLink "RegionHouseLaw" (44 : Nat) "RegionHouseModel") ∈ lw_tbl := lw_at lw_m10 66 rfl
theorem qt2472 : (Jvm.Cond.instantiable "RegionHouseModel" (171 : Nat)) ∈ lw_tbl := lw_at lw_m10 67 rfl
theorem qt2473 : (Jvm.Cond.methodLink "RegionHouseLaw" (46 : Nat) ({ cls := "RegionHouseModel", name := "<init>", desc := "()V" } : Jvm.MethodName)) ∈ lw_tbl := lw_at lw_m10 68 rfl
theorem qt2474 : (Jvm.Cond.instanceMethod ({ cls := "RegionHouseModel", name := "<init>", desc := "()V" } : Jvm.MethodName)) ∈ lw_tbl := lw_at lw_m10 69 rfl
theorem qt2475 : (Jvm.Cond.code ({ cls := "RegionHouseModel", name := "<init>", desc := "()V" } : Jvm.MethodName) prog_16_method_1_code (1 : Nat) (Option.none : Option Jvm.ClassFile.FieldType)) ∈ lw_tbl := lw_at lw_m10 70 rfl
theorem qt2476 : (Jvm.Cond.methodLink "RegionHouseModel" (1 : Nat) ({ cls := "java/lang/Object", name := "<init>", desc := "()V" } : Jvm.MethodName)) ∈ lw_tbl := lw_at lw_m10 71 rfl
theorem qt2477 : (Jvm.Cond.constant "RegionHouseModel" (34 : Nat) (40000 : Int32)) ∈ lw_tbl := lw_at lw_m10 72 rfl
theorem qt2478 : (Jvm.Cond.constant "RegionHouseModel" (137 : Nat) (100000 : Int32)) ∈ lw_tbl := lw_at lw_m10 73 rfl
theorem qt2479 : (Jvm.Cond.constant "RegionHouseModel" (162 : Nat) (250000 : Int32)) ∈ lw_tbl := lw_at lw_m10 74 rfl
theorem qt2480 : (Jvm.Cond.constant "RegionHouseModel" (172 : Nat) (200000 : Int32)) ∈ lw_tbl := lw_at lw_m10 75 rfl
theorem qt2481 : (Jvm.Cond.constant "RegionHouseModel" (188 : Nat) (60000 : Int32)) ∈ lw_tbl := lw_at lw_m10 76 rfl
theorem qt2482 : (Jvm.Cond.constant "RegionHouseModel" (278 : Nat) (130000 : Int32)) ∈ lw_tbl := lw_at lw_m10 77 rfl
theorem qt2483 : (Jvm.Cond.constant "RegionHouseModel" (354 : Nat) (201000 : Int32)) ∈ lw_tbl := lw_at lw_m10 78 rfl
theorem qt2484 : (Jvm.Cond.fieldLink "RegionHouseModel" (367 : Nat) "RegionHouseModel" "thrown" "I") ∈ lw_tbl := lw_at lw_m10 79 rfl
theorem qt2485 : (Jvm.Cond.fieldLink "RegionHouseModel" (372 : Nat) "RegionHouseModel" "taped" "I") ∈ lw_tbl := lw_at lw_m10 80 rfl
theorem qt2486 : (Jvm.Cond.fieldLink "RegionHouseModel" (7 : Nat) "RegionHouseModel" "tape" "[I") ∈ lw_tbl := lw_at lw_m10 81 rfl
theorem qt2487 : (Jvm.Cond.fieldLink "RegionHouseModel" (780 : Nat) "RegionHouseModel" "outMany" "I") ∈ lw_tbl := lw_at lw_m10 82 rfl
theorem qt2488 : (Jvm.Cond.fieldLink "RegionHouseModel" (13 : Nat) "RegionHouseModel" "out" "[I") ∈ lw_tbl := lw_at lw_m10 83 rfl
theorem qt2489 : (Jvm.Cond.fieldLink "RegionHouseModel" (375 : Nat) "RegionHouseModel" "faultKind" "I") ∈ lw_tbl := lw_at lw_m10 84 rfl
theorem qt2490 : (Jvm.Cond.fieldLink "RegionHouseModel" (378 : Nat) "RegionHouseModel" "faultPlace" "I") ∈ lw_tbl := lw_at lw_m10 85 rfl
theorem qt2491 : (Jvm.Cond.fieldLink "RegionHouseModel" (760 : Nat) "RegionHouseModel" "hasProgram" "Z") ∈ lw_tbl := lw_at lw_m10 86 rfl
theorem qt2492 : (Jvm.Cond.fieldLink "RegionHouseModel" (424 : Nat) "RegionHouseModel" "lexemes" "I") ∈ lw_tbl := lw_at lw_m10 87 rfl
theorem qt2493 : (Jvm.Cond.fieldLink "RegionHouseModel" (16 : Nat) "RegionHouseModel" "kinds" "[I") ∈ lw_tbl := lw_at lw_m10 88 rfl
theorem qt2494 : (Jvm.Cond.fieldLink "RegionHouseModel" (19 : Nat) "RegionHouseModel" "places" "[I") ∈ lw_tbl := lw_at lw_m10 89 rfl
theorem qt2495 : (Jvm.Cond.fieldLink "RegionHouseModel" (22 : Nat) "RegionHouseModel" "lengths" "[I") ∈ lw_tbl := lw_at lw_m10 90 rfl
theorem qt2496 : (Jvm.Cond.fieldLink "RegionHouseModel" (25 : Nat) "RegionHouseModel" "worth" "[I") ∈ lw_tbl := lw_at lw_m10 91 rfl
theorem qt2497 : (Jvm.Cond.fieldLink "RegionHouseModel" (385 : Nat) "RegionHouseModel" "textLong" "I") ∈ lw_tbl := lw_at lw_m10 92 rfl
theorem qt2498 : (Jvm.Cond.fieldLink "RegionHouseModel" (28 : Nat) "RegionHouseModel" "text" "[I") ∈ lw_tbl := lw_at lw_m10 93 rfl
theorem qt2499 : (Jvm.Cond.fieldLink "RegionHouseModel" (427 : Nat) "RegionHouseModel" "names" "I") ∈ lw_tbl := lw_at lw_m10 94 rfl
theorem qt2500 : (Jvm.Cond.fieldLink "RegionHouseModel" (31 : Nat) "RegionHouseModel" "nameAt" "[I") ∈ lw_tbl := lw_at lw_m10 95 rfl
theorem qt2501 : (Jvm.Cond.fieldLink "RegionHouseModel" (470 : Nat) "RegionHouseModel" "at" "I") ∈ lw_tbl := lw_at lw_m10 96 rfl
theorem qt2502 : (Jvm.Cond.fieldLink "RegionHouseModel" (473 : Nat) "RegionHouseModel" "come" "I") ∈ lw_tbl := lw_at lw_m10 97 rfl
theorem qt2503 : (Jvm.Cond.fieldLink "RegionHouseModel" (35 : Nat) "RegionHouseModel" "comes" "[I") ∈ lw_tbl := lw_at lw_m10 98 rfl
theorem qt2504 : (Jvm.Cond.fieldLink "RegionHouseModel" (38 : Nat) "RegionHouseModel" "comesA" "[I") ∈ lw_tbl := lw_at lw_m10 99 rfl
theorem qt2505 : (Jvm.Cond.fieldLink "RegionHouseModel" (41 : Nat) "RegionHouseModel" "comesB" "[I") ∈ lw_tbl := lw_at lw_m10 100 rfl
theorem qt2506 : (Jvm.Cond.fieldLink "RegionHouseModel" (476 : Nat) "RegionHouseModel" "read" "I") ∈ lw_tbl := lw_at lw_m10 101 rfl
theorem qt2507 : (Jvm.Cond.fieldLink "RegionHouseModel" (44 : Nat) "RegionHouseModel" "readPart" "[I") ∈ lw_tbl := lw_at lw_m10 102 rfl
theorem qt2508 : (Jvm.Cond.fieldLink "RegionHouseModel" (47 : Nat) "RegionHouseModel" "readFirst" "[I") ∈ lw_tbl := lw_at lw_m10 103 rfl
theorem qt2509 : (Jvm.Cond.fieldLink "RegionHouseModel" (50 : Nat) "RegionHouseModel" "readLast" "[I") ∈ lw_tbl := lw_at lw_m10 104 rfl
theorem qt2510 : (Jvm.Cond.fieldLink "RegionHouseModel" (509 : Nat) "RegionHouseModel" "deep" "I") ∈ lw_tbl := lw_at lw_m10 105 rfl
theorem qt2511 : (Jvm.Cond.fieldLink "RegionHouseModel" (491 : Nat) "RegionHouseModel" "functions" "I") ∈ lw_tbl := lw_at lw_m10 106 rfl
theorem qt2512 : (Jvm.Cond.fieldLink "RegionHouseModel" (494 : Nat) "RegionHouseModel" "here" "I") ∈ lw_tbl := lw_at lw_m10 107 rfl
theorem qt2513 : (Jvm.Cond.fieldLink "RegionHouseModel" (53 : Nat) "RegionHouseModel" "fName" "[I") ∈ lw_tbl := lw_at lw_m10 108 rfl
theorem qt2514 : (Jvm.Cond.fieldLink "RegionHouseModel" (56 : Nat) "RegionHouseModel" "fLexeme" "[I") ∈ lw_tbl := lw_at lw_m10 109 rfl
theorem qt2515 : (Jvm.Cond.fieldLink "RegionHouseModel" (59 : Nat) "RegionHouseModel" "fMany" "[I") ∈ lw_tbl := lw_at lw_m10 110 rfl
theorem qt2516 : (Jvm.Cond.fieldLink "RegionHouseModel" (62 : Nat) "RegionHouseModel" "fVariable" "[I") ∈ lw_tbl := lw_at lw_m10 111 rfl
theorem qt2517 : (Jvm.Cond.fieldLink "RegionHouseModel" (65 : Nat) "RegionHouseModel" "fBody" "[I") ∈ lw_tbl := lw_at lw_m10 112 rfl
theorem qt2518 : (Jvm.Cond.fieldLink "RegionHouseModel" (68 : Nat) "RegionHouseModel" "fPart" "[I") ∈ lw_tbl := lw_at lw_m10 113 rfl
theorem qt2519 : (Jvm.Cond.fieldLink "RegionHouseModel" (71 : Nat) "RegionHouseModel" "fVariables" "[I") ∈ lw_tbl := lw_at lw_m10 114 rfl
theorem qt2520 : (Jvm.Cond.fieldLink "RegionHouseModel" (503 : Nat) "RegionHouseModel" "variables" "I") ∈ lw_tbl := lw_at lw_m10 115 rfl
theorem qt2521 : (Jvm.Cond.fieldLink "RegionHouseModel" (74 : Nat) "RegionHouseModel" "vName" "[I") ∈ lw_tbl := lw_at lw_m10 116 rfl
theorem qt2522 : (Jvm.Cond.fieldLink "RegionHouseModel" (77 : Nat) "RegionHouseModel" "vLexeme" "[I") ∈ lw_tbl := lw_at lw_m10 117 rfl
theorem qt2523 : (Jvm.Cond.fieldLink "RegionHouseModel" (80 : Nat) "RegionHouseModel" "vDepth" "[I") ∈ lw_tbl := lw_at lw_m10 118 rfl
theorem qt2524 : (Jvm.Cond.fieldLink "RegionHouseModel" (488 : Nat) "RegionHouseModel" "scoped" "I") ∈ lw_tbl := lw_at lw_m10 119 rfl
theorem qt2525 : (Jvm.Cond.fieldLink "RegionHouseModel" (83 : Nat) "RegionHouseModel" "scope" "[I") ∈ lw_tbl := lw_at lw_m10 120 rfl
theorem qt2526 : (Jvm.Cond.fieldLink "RegionHouseModel" (506 : Nat) "RegionHouseModel" "scopes" "I") ∈ lw_tbl := lw_at lw_m10 121 rfl
theorem qt2527 : (Jvm.Cond.fieldLink "RegionHouseModel" (482 : Nat) "RegionHouseModel" "scopeTop" "I") ∈ lw_tbl := lw_at lw_m10 122 rfl
theorem qt2528 : (Jvm.Cond.fieldLink "RegionHouseModel" (86 : Nat) "RegionHouseModel" "scopeVariable" "[I") ∈ lw_tbl := lw_at lw_m10 123 rfl
theorem qt2529 : (Jvm.Cond.fieldLink "RegionHouseModel" (89 : Nat) "RegionHouseModel" "scopeUp" "[I") ∈ lw_tbl := lw_at lw_m10 124 rfl
theorem qt2530 : (Jvm.Cond.fieldLink "RegionHouseModel" (479 : Nat) "RegionHouseModel" "parts" "I") ∈ lw_tbl := lw_at lw_m10 125 rfl
theorem qt2531 : (Jvm.Cond.fieldLink "RegionHouseModel" (92 : Nat) "RegionHouseModel" "pKind" "[I") ∈ lw_tbl := lw_at lw_m10 126 rfl
theorem qt2532 : (Jvm.Cond.fieldLink "RegionHouseModel" (95 : Nat) "RegionHouseModel" "pFirst" "[I") ∈ lw_tbl := lw_at lw_m10 127 rfl
theorem qt2533 : (Jvm.Cond.fieldLink "RegionHouseModel" (98 : Nat) "RegionHouseModel" "pLast" "[I") ∈ lw_tbl := lw_at lw_m10 128 rfl
theorem qt2534 : (Jvm.Cond.fieldLink "RegionHouseModel" (101 : Nat) "RegionHouseModel" "pA" "[I") ∈ lw_tbl := lw_at lw_m10 129 rfl
theorem qt2535 : (Jvm.Cond.fieldLink "RegionHouseModel" (104 : Nat) "RegionHouseModel" "pB" "[I") ∈ lw_tbl := lw_at lw_m10 130 rfl
theorem qt2536 : (Jvm.Cond.fieldLink "RegionHouseModel" (107 : Nat) "RegionHouseModel" "pC" "[I") ∈ lw_tbl := lw_at lw_m10 131 rfl
theorem qt2537 : (Jvm.Cond.fieldLink "RegionHouseModel" (110 : Nat) "RegionHouseModel" "pWhat" "[I") ∈ lw_tbl := lw_at lw_m10 132 rfl
theorem qt2538 : (Jvm.Cond.fieldLink "RegionHouseModel" (113 : Nat) "RegionHouseModel" "pLexeme" "[I") ∈ lw_tbl := lw_at lw_m10 133 rfl
theorem qt2539 : (Jvm.Cond.fieldLink "RegionHouseModel" (116 : Nat) "RegionHouseModel" "pUp" "[I") ∈ lw_tbl := lw_at lw_m10 134 rfl
theorem qt2540 : (Jvm.Cond.fieldLink "RegionHouseModel" (119 : Nat) "RegionHouseModel" "pScope" "[I") ∈ lw_tbl := lw_at lw_m10 135 rfl
theorem qt2541 : (Jvm.Cond.fieldLink "RegionHouseModel" (122 : Nat) "RegionHouseModel" "pStart" "[I") ∈ lw_tbl := lw_at lw_m10 136 rfl
theorem qt2542 : (Jvm.Cond.fieldLink "RegionHouseModel" (125 : Nat) "RegionHouseModel" "pGiven" "[I") ∈ lw_tbl := lw_at lw_m10 137 rfl
theorem qt2543 : (Jvm.Cond.fieldLink "RegionHouseModel" (128 : Nat) "RegionHouseModel" "pGivenMany" "[I") ∈ lw_tbl := lw_at lw_m10 138 rfl
theorem qt2544 : (Jvm.Cond.fieldLink "RegionHouseModel" (546 : Nat) "RegionHouseModel" "givens" "I") ∈ lw_tbl := lw_at lw_m10 139 rfl
theorem qt2545 : (Jvm.Cond.fieldLink "RegionHouseModel" (131 : Nat) "RegionHouseModel" "given" "[I") ∈ lw_tbl := lw_at lw_m10 140 rfl
theorem qt2546 : (Jvm.Cond.fieldLink "RegionHouseModel" (134 : Nat) "RegionHouseModel" "pDepth" "[I") ∈ lw_tbl := lw_at lw_m10 141 rfl
theorem qt2547 : (Jvm.Cond.fieldLink "RegionHouseModel" (606 : Nat) "RegionHouseModel" "types" "I") ∈ lw_tbl := lw_at lw_m10 142 rfl
theorem qt2548 : (Jvm.Cond.fieldLink "RegionHouseModel" (138 : Nat) "RegionHouseModel" "tKind" "[I") ∈ lw_tbl := lw_at lw_m10 143 rfl
theorem qt2549 : (Jvm.Cond.fieldLink "RegionHouseModel" (141 : Nat) "RegionHouseModel" "tA" "[I") ∈ lw_tbl := lw_at lw_m10 144 rfl
theorem qt2550 : (Jvm.Cond.fieldLink "RegionHouseModel" (144 : Nat) "RegionHouseModel" "tB" "[I") ∈ lw_tbl := lw_at lw_m10 145 rfl
theorem qt2551 : (Jvm.Cond.fieldLink "RegionHouseModel" (147 : Nat) "RegionHouseModel" "tUp" "[I") ∈ lw_tbl := lw_at lw_m10 146 rfl
theorem qt2552 : (Jvm.Cond.fieldLink "RegionHouseModel" (150 : Nat) "RegionHouseModel" "tHolds" "[I") ∈ lw_tbl := lw_at lw_m10 147 rfl
theorem qt2553 : (Jvm.Cond.fieldLink "RegionHouseModel" (153 : Nat) "RegionHouseModel" "tMark" "[I") ∈ lw_tbl := lw_at lw_m10 148 rfl
theorem qt2554 : (Jvm.Cond.fieldLink "RegionHouseModel" (156 : Nat) "RegionHouseModel" "tDone" "[I") ∈ lw_tbl := lw_at lw_m10 149 rfl
theorem qt2555 : (Jvm.Cond.fieldLink "RegionHouseModel" (159 : Nat) "RegionHouseModel" "tCopy" "[I") ∈ lw_tbl := lw_at lw_m10 150 rfl
theorem qt2556 : (Jvm.Cond.fieldLink "RegionHouseModel" (625 : Nat) "RegionHouseModel" "mark" "I") ∈ lw_tbl := lw_at lw_m10 151 rfl
theorem qt2557 : (Jvm.Cond.fieldLink "RegionHouseModel" (622 : Nat) "RegionHouseModel" "holds" "I") ∈ lw_tbl := lw_at lw_m10 152 rfl
theorem qt2558 : (Jvm.Cond.fieldLink "RegionHouseModel" (163 : Nat) "RegionHouseModel" "heldType" "[I") ∈ lw_tbl := lw_at lw_m10 153 rfl
theorem qt2559 : (Jvm.Cond.fieldLink "RegionHouseModel" (166 : Nat) "RegionHouseModel" "heldNext" "[I") ∈ lw_tbl := lw_at lw_m10 154 rfl
theorem qt2560 : (Jvm.Cond.fieldLink "RegionHouseModel" (169 : Nat) "RegionHouseModel" "row" "[I") ∈ lw_tbl := lw_at lw_m10 155 rfl
theorem qt2561 : (Jvm.Cond.fieldLink "RegionHouseModel" (173 : Nat) "RegionHouseModel" "pairs" "[I") ∈ lw_tbl := lw_at lw_m10 156 rfl
theorem qt2562 : (Jvm.Cond.fieldLink "RegionHouseModel" (176 : Nat) "RegionHouseModel" "pType" "[I") ∈ lw_tbl := lw_at lw_m10 157 rfl
theorem qt2563 : (Jvm.Cond.fieldLink "RegionHouseModel" (179 : Nat) "RegionHouseModel" "vType" "[I") ∈ lw_tbl := lw_at lw_m10 158 rfl
theorem qt2564 : (Jvm.Cond.fieldLink "RegionHouseModel" (182 : Nat) "RegionHouseModel" "fResult" "[I") ∈ lw_tbl := lw_at lw_m10 159 rfl
theorem qt2565 : (Jvm.Cond.fieldLink "RegionHouseModel" (185 : Nat) "RegionHouseModel" "pCopy" "[I") ∈ lw_tbl := lw_at lw_m10 160 rfl
theorem qt2566 : (Jvm.Cond.fieldLink "RegionHouseModel" (647 : Nat) "RegionHouseModel" "copies" "I") ∈ lw_tbl := lw_at lw_m10 161 rfl
theorem qt2567 : (Jvm.Cond.fieldLink "RegionHouseModel" (189 : Nat) "RegionHouseModel" "copy" "[I") ∈ lw_tbl := lw_at lw_m10 162 rfl
theorem qt2568 : (Jvm.Cond.fieldLink "RegionHouseModel" (613 : Nat) "RegionHouseModel" "heldMark" "I") ∈ lw_tbl := lw_at lw_m10 163 rfl
theorem qt2569 : (Jvm.Cond.fieldLink "RegionHouseModel" (192 : Nat) "RegionHouseModel" "tHeld" "[I") ∈ lw_tbl := lw_at lw_m10 164 rfl
theorem qt2570 : (Jvm.Cond.fieldLink "RegionHouseModel" (195 : Nat) "RegionHouseModel" "tNumber" "[I") ∈ lw_tbl := lw_at lw_m10 165 rfl
theorem qt2571 : (Jvm.Cond.fieldLink "RegionHouseModel" (671 : Nat) "RegionHouseModel" "numbers" "I") ∈ lw_tbl := lw_at lw_m10 166 rfl
theorem qt2572 : (Jvm.Cond.fieldLink "RegionHouseModel" (198 : Nat) "RegionHouseModel" "numberType" "[I") ∈ lw_tbl := lw_at lw_m10 167 rfl
theorem qt2573 : (Jvm.Cond.fieldLink "RegionHouseModel" (201 : Nat) "RegionHouseModel" "numberOwn" "[I") ∈ lw_tbl := lw_at lw_m10 168 rfl
theorem qt2574 : (Jvm.Cond.fieldLink "RegionHouseModel" (680 : Nat) "RegionHouseModel" "words" "I") ∈ lw_tbl := lw_at lw_m10 169 rfl
theorem qt2575 : (Jvm.Cond.fieldLink "RegionHouseModel" (204 : Nat) "RegionHouseModel" "partBits" "[J") ∈ lw_tbl := lw_at lw_m10 170 rfl
theorem qt2576 : (Jvm.Cond.fieldLink "RegionHouseModel" (208 : Nat) "RegionHouseModel" "scopeBits" "[J") ∈ lw_tbl := lw_at lw_m10 171 rfl
theorem qt2577 : (Jvm.Cond.fieldLink "RegionHouseModel" (211 : Nat) "RegionHouseModel" "allBits" "[J") ∈ lw_tbl := lw_at lw_m10 172 rfl
theorem qt2578 : (Jvm.Cond.fieldLink "RegionHouseModel" (690 : Nat) "RegionHouseModel" "firstScope" "I") ∈ lw_tbl := lw_at lw_m10 173 rfl
theorem qt2579 : (Jvm.Cond.fieldLink "RegionHouseModel" (214 : Nat) "RegionHouseModel" "fNumbers" "[I") ∈ lw_tbl := lw_at lw_m10 174 rfl
theorem qt2580 : (Jvm.Cond.fieldLink "RegionHouseModel" (217 : Nat) "RegionHouseModel" "fGets" "[I") ∈ lw_tbl := lw_at lw_m10 175 rfl
theorem qt2581 : (Jvm.Cond.fieldLink "RegionHouseModel" (220 : Nat) "RegionHouseModel" "fGet" "[I") ∈ lw_tbl := lw_at lw_m10 176 rfl
theorem qt2582 : (Jvm.Cond.fieldLink "RegionHouseModel" (223 : Nat) "RegionHouseModel" "rType" "[I") ∈ lw_tbl := lw_at lw_m10 177 rfl
theorem qt2583 : (Jvm.Cond.fieldLink "RegionHouseModel" (226 : Nat) "RegionHouseModel" "rOwn" "[I") ∈ lw_tbl := lw_at lw_m10 178 rfl
theorem qt2584 : (Jvm.Cond.fieldLink "RegionHouseModel" (229 : Nat) "RegionHouseModel" "fReach" "[I") ∈ lw_tbl := lw_at lw_m10 179 rfl
theorem qt2585 : (Jvm.Cond.fieldLink "RegionHouseModel" (232 : Nat) "RegionHouseModel" "pCaught" "[I") ∈ lw_tbl := lw_at lw_m10 180 rfl
theorem qt2586 : (Jvm.Cond.fieldLink "RegionHouseModel" (235 : Nat) "RegionHouseModel" "pCaughtMany" "[I") ∈ lw_tbl := lw_at lw_m10 181 rfl
theorem qt2587 : (Jvm.Cond.fieldLink "RegionHouseModel" (745 : Nat) "RegionHouseModel" "caughts" "I") ∈ lw_tbl := lw_at lw_m10 182 rfl
theorem qt2588 : (Jvm.Cond.fieldLink "RegionHouseModel" (238 : Nat) "RegionHouseModel" "caught" "[I") ∈ lw_tbl := lw_at lw_m10 183 rfl
theorem qt2589 : (Jvm.Cond.fieldLink "RegionHouseModel" (241 : Nat) "RegionHouseModel" "pKept" "[I") ∈ lw_tbl := lw_at lw_m10 184 rfl
theorem qt2590 : (Jvm.Cond.fieldLink "RegionHouseModel" (244 : Nat) "RegionHouseModel" "pKeptMany" "[I") ∈ lw_tbl := lw_at lw_m10 185 rfl
theorem qt2591 : (Jvm.Cond.fieldLink "RegionHouseModel" (754 : Nat) "RegionHouseModel" "kepts" "I") ∈ lw_tbl := lw_at lw_m10 186 rfl
theorem qt2592 : (Jvm.Cond.fieldLink "RegionHouseModel" (247 : Nat) "RegionHouseModel" "kept" "[I") ∈ lw_tbl := lw_at lw_m10 187 rfl
theorem qt2593 : (Jvm.Cond.fieldLink "RegionHouseModel" (250 : Nat) "RegionHouseModel" "fScope" "[I") ∈ lw_tbl := lw_at lw_m10 188 rfl
theorem qt2594 : (Jvm.Cond.fieldLink "RegionHouseModel" (712 : Nat) "RegionHouseModel" "unknownMany" "I") ∈ lw_tbl := lw_at lw_m10 189 rfl
theorem qt2595 : (Jvm.Cond.fieldLink "RegionHouseModel" (715 : Nat) "RegionHouseModel" "heldMany" "I") ∈ lw_tbl := lw_at lw_m10 190 rfl
theorem qt2596 : (Jvm.Cond.fieldLink "RegionHouseModel" (253 : Nat) "RegionHouseModel" "digits" "[I") ∈ lw_tbl := lw_at lw_m10 191 rfl
theorem qt2597 : (Jvm.Cond.fieldLink "RegionHouseModel" (788 : Nat) "RegionHouseModel" "spaced" "Z") ∈ lw_tbl := lw_at lw_m10 192 rfl
theorem qt2598 : (Jvm.Cond.fieldLink "RegionHouseModel" (256 : Nat) "RegionHouseModel" "annotated" "[I") ∈ lw_tbl := lw_at lw_m10 193 rfl
theorem qt2599 : (Jvm.Cond.fieldLink "RegionHouseModel" (259 : Nat) "RegionHouseModel" "gets" "[I") ∈ lw_tbl := lw_at lw_m10 194 rfl
theorem qt2600 : (Jvm.Cond.fieldLink "RegionHouseModel" (821 : Nat) "RegionHouseModel" "unknowns" "I") ∈ lw_tbl := lw_at lw_m10 195 rfl
theorem qt2601 : (Jvm.Cond.fieldLink "RegionHouseModel" (824 : Nat) "RegionHouseModel" "tasks" "I") ∈ lw_tbl := lw_at lw_m10 196 rfl
theorem qt2602 : (Jvm.Cond.fieldLink "RegionHouseModel" (262 : Nat) "RegionHouseModel" "taskType" "[I") ∈ lw_tbl := lw_at lw_m10 197 rfl
theorem qt2603 : (Jvm.Cond.fieldLink "RegionHouseModel" (265 : Nat) "RegionHouseModel" "pages" "I") ∈ lw_tbl := lw_at lw_m10 198 rfl
theorem qt2604 : (Jvm.Cond.fieldLink "RegionHouseModel" (269 : Nat) "RegionHouseModel" "pageWords" "I") ∈ lw_tbl := lw_at lw_m10 199 rfl
theorem qt2605 : (Jvm.Cond.fieldLink "RegionHouseModel" (852 : Nat) "RegionHouseModel" "every" "I") ∈ lw_tbl := lw_at lw_m10 200 rfl
theorem qt2606 : (Jvm.Cond.fieldLink "RegionHouseModel" (757 : Nat) "RegionHouseModel" "state" "I") ∈ lw_tbl := lw_at lw_m10 201 rfl
theorem qt2607 : (Jvm.Cond.fieldLink "RegionHouseModel" (918 : Nat) "RegionHouseModel" "steps" "I") ∈ lw_tbl := lw_at lw_m10 202 rfl
theorem qt2608 : (Jvm.Cond.fieldLink "RegionHouseModel" (903 : Nat) "RegionHouseModel" "objects" "I") ∈ lw_tbl := lw_at lw_m10 203 rfl
theorem qt2609 : (Jvm.Cond.fieldLink "RegionHouseModel" (893 : Nat) "RegionHouseModel" "collections" "I") ∈ lw_tbl := lw_at lw_m10 204 rfl
theorem qt2610 : (Jvm.Cond.fieldLink "RegionHouseModel" (896 : Nat) "RegionHouseModel" "copied" "I") ∈ lw_tbl := lw_at lw_m10 205 rfl
theorem qt2611 : (Jvm.Cond.fieldLink "RegionHouseModel" (861 : Nat) "RegionHouseModel" "pagesUsed" "I") ∈ lw_tbl := lw_at lw_m10 206 rfl
theorem qt2612 : (Jvm.Cond.fieldLink "RegionHouseModel" (890 : Nat) "RegionHouseModel" "peak" "I") ∈ lw_tbl := lw_at lw_m10 207 rfl
theorem qt2613 : (Jvm.Cond.fieldLink "RegionHouseModel" (872 : Nat) "RegionHouseModel" "regionsMade" "I") ∈ lw_tbl := lw_at lw_m10 208 rfl
theorem qt2614 : (Jvm.Cond.fieldLink "RegionHouseModel" (878 : Nat) "RegionHouseModel" "strays" "I") ∈ lw_tbl := lw_at lw_m10 209 rfl
theorem qt2615 : (Jvm.Cond.fieldLink "RegionHouseModel" (864 : Nat) "RegionHouseModel" "under" "I") ∈ lw_tbl := lw_at lw_m10 210 rfl
theorem qt2616 : (Jvm.Cond.fieldLink "RegionHouseModel" (855 : Nat) "RegionHouseModel" "stack" "I") ∈ lw_tbl := lw_at lw_m10 211 rfl
theorem qt2617 : (Jvm.Cond.fieldLink "RegionHouseModel" (272 : Nat) "RegionHouseModel" "sKind" "[I") ∈ lw_tbl := lw_at lw_m10 212 rfl
theorem qt2618 : (Jvm.Cond.fieldLink "RegionHouseModel" (275 : Nat) "RegionHouseModel" "sValue" "[I") ∈ lw_tbl := lw_at lw_m10 213 rfl
theorem qt2619 : (Jvm.Cond.fieldLink "RegionHouseModel" (866 : Nat) "RegionHouseModel" "control" "I") ∈ lw_tbl := lw_at lw_m10 214 rfl
theorem qt2620 : (Jvm.Cond.fieldLink "RegionHouseModel" (279 : Nat) "RegionHouseModel" "doWhat" "[I") ∈ lw_tbl := lw_at lw_m10 215 rfl
theorem qt2621 : (Jvm.Cond.fieldLink "RegionHouseModel" (282 : Nat) "RegionHouseModel" "doPart" "[I") ∈ lw_tbl := lw_at lw_m10 216 rfl
theorem qt2622 : (Jvm.Cond.fieldLink "RegionHouseModel" (285 : Nat) "RegionHouseModel" "doBase" "[I") ∈ lw_tbl := lw_at lw_m10 217 rfl
theorem qt2623 : (Jvm.Cond.fieldLink "RegionHouseModel" (875 : Nat) "RegionHouseModel" "acts" "I") ∈ lw_tbl := lw_at lw_m10 218 rfl
theorem qt2624 : (Jvm.Cond.fieldLink "RegionHouseModel" (288 : Nat) "RegionHouseModel" "aVariable" "[I") ∈ lw_tbl := lw_at lw_m10 219 rfl
theorem qt2625 : (Jvm.Cond.fieldLink "RegionHouseModel" (291 : Nat) "RegionHouseModel" "aRegion" "[I") ∈ lw_tbl := lw_at lw_m10 220 rfl
theorem qt2626 : (Jvm.Cond.fieldLink "RegionHouseModel" (294 : Nat) "RegionHouseModel" "aClosure" "[I") ∈ lw_tbl := lw_at lw_m10 221 rfl
theorem qt2627 : (Jvm.Cond.fieldLink "RegionHouseModel" (297 : Nat) "RegionHouseModel" "aFunction" "[I") ∈ lw_tbl := lw_at lw_m10 222 rfl
theorem qt2628 : (Jvm.Cond.fieldLink "RegionHouseModel" (858 : Nat) "RegionHouseModel" "theres" "I") ∈ lw_tbl := lw_at lw_m10 223 rfl
theorem qt2629 : (Jvm.Cond.fieldLink "RegionHouseModel" (300 : Nat) "RegionHouseModel" "gFunction" "[I") ∈ lw_tbl := lw_at lw_m10 224 rfl
theorem qt2630 : (Jvm.Cond.fieldLink "RegionHouseModel" (303 : Nat) "RegionHouseModel" "gNumber" "[I") ∈ lw_tbl := lw_at lw_m10 225 rfl
theorem qt2631 : (Jvm.Cond.fieldLink "RegionHouseModel" (306 : Nat) "RegionHouseModel" "gSerial" "[I") ∈ lw_tbl := lw_at lw_m10 226 rfl
theorem qt2632 : (Jvm.Cond.fieldLink "RegionHouseModel" (309 : Nat) "RegionHouseModel" "gObjects" "[I") ∈ lw_tbl := lw_at lw_m10 227 rfl
theorem qt2633 : (Jvm.Cond.fieldLink "RegionHouseModel" (312 : Nat) "RegionHouseModel" "gPages" "[I") ∈ lw_tbl := lw_at lw_m10 228 rfl
theorem qt2634 : (Jvm.Cond.fieldLink "RegionHouseModel" (315 : Nat) "RegionHouseModel" "gUsed" "[I") ∈ lw_tbl := lw_at lw_m10 229 rfl
theorem qt2635 : (Jvm.Cond.fieldLink "RegionHouseModel" (318 : Nat) "RegionHouseModel" "nObjects" "[I") ∈ lw_tbl := lw_at lw_m10 230 rfl
theorem qt2636 : (Jvm.Cond.fieldLink "RegionHouseModel" (321 : Nat) "RegionHouseModel" "nPages" "[I") ∈ lw_tbl := lw_at lw_m10 231 rfl
theorem qt2637 : (Jvm.Cond.fieldLink "RegionHouseModel" (324 : Nat) "RegionHouseModel" "nUsed" "[I") ∈ lw_tbl := lw_at lw_m10 232 rfl
theorem qt2638 : (Jvm.Cond.fieldLink "RegionHouseModel" (327 : Nat) "RegionHouseModel" "oKind" "[I") ∈ lw_tbl := lw_at lw_m10 233 rfl
theorem qt2639 : (Jvm.Cond.fieldLink "RegionHouseModel" (330 : Nat) "RegionHouseModel" "oWords" "[I") ∈ lw_tbl := lw_at lw_m10 234 rfl
theorem qt2640 : (Jvm.Cond.fieldLink "RegionHouseModel" (333 : Nat) "RegionHouseModel" "oRegion" "[I") ∈ lw_tbl := lw_at lw_m10 235 rfl
theorem qt2641 : (Jvm.Cond.fieldLink "RegionHouseModel" (336 : Nat) "RegionHouseModel" "oSerial" "[I") ∈ lw_tbl := lw_at lw_m10 236 rfl
theorem qt2642 : (Jvm.Cond.fieldLink "RegionHouseModel" (339 : Nat) "RegionHouseModel" "oPart" "[I") ∈ lw_tbl := lw_at lw_m10 237 rfl
theorem qt2643 : (Jvm.Cond.fieldLink "RegionHouseModel" (342 : Nat) "RegionHouseModel" "oAt" "[I") ∈ lw_tbl := lw_at lw_m10 238 rfl
theorem qt2644 : (Jvm.Cond.fieldLink "RegionHouseModel" (345 : Nat) "RegionHouseModel" "oMany" "[I") ∈ lw_tbl := lw_at lw_m10 239 rfl
theorem qt2645 : (Jvm.Cond.fieldLink "RegionHouseModel" (348 : Nat) "RegionHouseModel" "oMet" "[I") ∈ lw_tbl := lw_at lw_m11 0 rfl
theorem qt2646 : (Jvm.Cond.fieldLink "RegionHouseModel" (881 : Nat) "RegionHouseModel" "met" "I") ∈ lw_tbl := lw_at lw_m11 1 rfl
theorem qt2647 : (Jvm.Cond.fieldLink "RegionHouseModel" (351 : Nat) "RegionHouseModel" "queue" "[I") ∈ lw_tbl := lw_at lw_m11 2 rfl
theorem qt2648 : (Jvm.Cond.fieldLink "RegionHouseModel" (906 : Nat) "RegionHouseModel" "filled" "I") ∈ lw_tbl := lw_at lw_m11 3 rfl
theorem qt2649 : (Jvm.Cond.fieldLink "RegionHouseModel" (355 : Nat) "RegionHouseModel" "inKind" "[I") ∈ lw_tbl := lw_at lw_m11 4 rfl
theorem qt2650 : (Jvm.Cond.fieldLink "RegionHouseModel" (358 : Nat) "RegionHouseModel" "inValue" "[I") ∈ lw_tbl := lw_at lw_m11 5 rfl
theorem qt2651 : (Jvm.Cond.fieldLink "RegionHouseModel" (942 : Nat) "RegionHouseModel" "foundKind" "I") ∈ lw_tbl := lw_at lw_m11 6 rfl
theorem qt2652 : (Jvm.Cond.fieldLink "RegionHouseModel" (945 : Nat) "RegionHouseModel" "foundValue" "I") ∈ lw_tbl := lw_at lw_m11 7 rfl
theorem qt2653 : (Jvm.Cond.fieldLink "RegionHouseModel" (361 : Nat) "RegionHouseModel" "showKind" "[I") ∈ lw_tbl := lw_at lw_m11 8 rfl
theorem qt2654 : (Jvm.Cond.fieldLink "RegionHouseModel" (364 : Nat) "RegionHouseModel" "showValue" "[I") ∈ lw_tbl := lw_at lw_m11 9 rfl
theorem qt2998 : (Jvm.Cond.methodLink "RegionHouseLaw" (60 : Nat) ({ cls := "RegionHouseModel", name := "thrown", desc := "()I" } : Jvm.MethodName)) ∈ lw_tbl := lw_at lw_m12 113 rfl
theorem qt2999 : (Jvm.Cond.instanceMethod ({ cls := "RegionHouseModel", name := "thrown", desc := "()I" } : Jvm.MethodName)) ∈ lw_tbl := lw_at lw_m12 114 rfl
theorem qt3000 : (Jvm.Cond.selects "RegionHouseModel" ({ cls := "RegionHouseModel", name := "thrown", desc := "()I" } : Jvm.MethodName) ({ cls := "RegionHouseModel", name := "thrown", desc := "()I" } : Jvm.MethodName)) ∈ lw_tbl := lw_at lw_m12 115 rfl
theorem qt3001 : (Jvm.Cond.code ({ cls := "RegionHouseModel", name := "thrown", desc := "()I" } : Jvm.MethodName) prog_16_method_2_code (1 : Nat) (Option.some Jvm.ClassFile.FieldType.int)) ∈ lw_tbl := lw_at lw_m12 116 rfl
theorem qt3002 : (Jvm.Cond.methodLink "RegionHouseLaw" (53 : Nat) ({ cls := "RegionHouseModel", name := "type", desc := "(J)I" } : Jvm.MethodName)) ∈ lw_tbl := lw_at lw_m12 117 rfl
theorem qt3003 : (Jvm.Cond.instanceMethod ({ cls := "RegionHouseModel", name := "type", desc := "(J)I" } : Jvm.MethodName)) ∈ lw_tbl := lw_at lw_m12 118 rfl
theorem qt3004 : (Jvm.Cond.selects "RegionHouseModel" ({ cls := "RegionHouseModel", name := "type", desc := "(J)I" } : Jvm.MethodName) ({ cls := "RegionHouseModel", name := "type", desc := "(J)I" } : Jvm.MethodName)) ∈ lw_tbl := lw_at lw_m12 119 rfl
theorem qt3005 : (Jvm.Cond.code ({ cls := "RegionHouseModel", name := "type", desc := "(J)I" } : Jvm.MethodName) prog_16_method_5_code (5 : Nat) (Option.some Jvm.ClassFile.FieldType.int)) ∈ lw_tbl := lw_at lw_m12 120 rfl
theorem qt3006 : (Jvm.Cond.constantLong "RegionHouseModel" (370 : Nat) (255 : Int64)) ∈ lw_tbl := lw_at lw_m12 121 rfl
theorem qt3007 : (Jvm.Cond.methodLink "RegionHouseLaw" (59 : Nat) ({ cls := "RegionHouseModel", name := "compile", desc := "()I" } : Jvm.MethodName)) ∈ lw_tbl := lw_at lw_m12 122 rfl
theorem qt3008 : (Jvm.Cond.instanceMethod ({ cls := "RegionHouseModel", name := "compile", desc := "()I" } : Jvm.MethodName)) ∈ lw_tbl := lw_at lw_m12 123 rfl
theorem qt3009 : (Jvm.Cond.selects "RegionHouseModel" ({ cls := "RegionHouseModel", name := "compile", desc := "()I" } : Jvm.MethodName) ({ cls := "RegionHouseModel", name := "compile", desc := "()I" } : Jvm.MethodName)) ∈ lw_tbl := lw_at lw_m12 124 rfl
theorem qt3010 : (Jvm.Cond.code ({ cls := "RegionHouseModel", name := "compile", desc := "()I" } : Jvm.MethodName) prog_16_method_90_code (3 : Nat) (Option.some Jvm.ClassFile.FieldType.int)) ∈ lw_tbl := lw_at lw_m12 125 rfl
theorem qt3011 : (Jvm.Cond.methodLink "RegionHouseModel" (764 : Nat) ({ cls := "RegionHouseModel", name := "cut", desc := "()V" } : Jvm.MethodName)) ∈ lw_tbl := lw_at lw_m12 126 rfl
theorem qt3013 : (Jvm.Cond.instanceMethod ({ cls := "RegionHouseModel", name := "cut", desc := "()V" } : Jvm.MethodName)) ∈ lw_tbl := lw_at lw_m12 128 rfl
theorem qt3014 : (Jvm.Cond.code ({ cls := "RegionHouseModel", name := "cut", desc := "()V" } : Jvm.MethodName) prog_16_method_17_code (5 : Nat) (Option.none : Option Jvm.ClassFile.FieldType)) ∈ lw_tbl := lw_at lw_m12 129 rfl
theorem qt3015 : (Jvm.Cond.methodLink "RegionHouseModel" (434 : Nat) ({ cls := "RegionHouseModel", name := "isSmall", desc := "(I)Z" } : Jvm.MethodName)) ∈ lw_tbl := lw_at lw_m12 130 rfl
theorem qt3016 : (Jvm.Cond.static ({ cls := "RegionHouseModel", name := "isSmall", desc := "(I)Z" } : Jvm.MethodName)) ∈ lw_tbl := lw_at lw_m12 131 rfl
theorem qt3017 : (Jvm.Cond.code ({ cls := "RegionHouseModel", name := "isSmall", desc := "(I)Z" } : Jvm.MethodName) prog_16_method_7_code (1 : Nat) (Option.some Jvm.ClassFile.FieldType.boolean)) ∈ lw_tbl := lw_at lw_m12 132 rfl
theorem qt3018 : (Jvm.Cond.methodLink "RegionHouseModel" (381 : Nat) ({ cls := "RegionHouseModel", name := "within", desc := "(III)Z" } : Jvm.MethodName)) ∈ lw_tbl := lw_at lw_m12 133 rfl
theorem qt3019 : (Jvm.Cond.static ({ cls := "RegionHouseModel", name := "within", desc := "(III)Z" } : Jvm.MethodName)) ∈ lw_tbl := lw_at lw_m12 134 rfl
theorem qt3020 : (Jvm.Cond.code ({ cls := "RegionHouseModel", name := "within", desc := "(III)Z" } : Jvm.MethodName) prog_16_method_4_code (3 : Nat) (Option.some Jvm.ClassFile.FieldType.boolean)) ∈ lw_tbl := lw_at lw_m12 135 rfl
theorem qt3021 : (Jvm.Cond.methodLink "RegionHouseModel" (430 : Nat) ({ cls := "RegionHouseModel", name := "sign", desc := "(I)I" } : Jvm.MethodName)) ∈ lw_tbl := lw_at lw_m12 136 rfl
theorem qt3023 : (Jvm.Cond.instanceMethod ({ cls := "RegionHouseModel", name := "sign", desc := "(I)I" } : Jvm.MethodName)) ∈ lw_tbl := lw_at lw_m12 138 rfl
theorem qt3024 : (Jvm.Cond.code ({ cls := "RegionHouseModel", name := "sign", desc := "(I)I" } : Jvm.MethodName) prog_16_method_9_code (2 : Nat) (Option.some Jvm.ClassFile.FieldType.int)) ∈ lw_tbl := lw_at lw_m12 139 rfl
theorem qt3025 : (Jvm.Cond.methodLink "RegionHouseModel" (438 : Nat) ({ cls := "RegionHouseModel", name := "isDigit", desc := "(I)Z" } : Jvm.MethodName)) ∈ lw_tbl := lw_at lw_m12 140 rfl
theorem qt3026 : (Jvm.Cond.static ({ cls := "RegionHouseModel", name := "isDigit", desc := "(I)Z" } : Jvm.MethodName)) ∈ lw_tbl := lw_at lw_m12 141 rfl
theorem qt3027 : (Jvm.Cond.code ({ cls := "RegionHouseModel", name := "isDigit", desc := "(I)Z" } : Jvm.MethodName) prog_16_method_8_code (1 : Nat) (Option.some Jvm.ClassFile.FieldType.boolean)) ∈ lw_tbl := lw_at lw_m12 142 rfl
theorem qt3028 : (Jvm.Cond.methodLink "RegionHouseModel" (461 : Nat) ({ cls := "RegionHouseModel", name := "addName", desc := "(II)V" } : Jvm.MethodName)) ∈ lw_tbl := lw_at lw_m12 143 rfl
theorem qt3030 : (Jvm.Cond.instanceMethod ({ cls := "RegionHouseModel", name := "addName", desc := "(II)V" } : Jvm.MethodName)) ∈ lw_tbl := lw_at lw_m12 145 rfl
theorem qt3031 : (Jvm.Cond.code ({ cls := "RegionHouseModel", name := "addName", desc := "(II)V" } : Jvm.MethodName) prog_16_method_14_code (4 : Nat) (Option.none : Option Jvm.ClassFile.FieldType)) ∈ lw_tbl := lw_at lw_m12 146 rfl
theorem qt3032 : (Jvm.Cond.methodLink "RegionHouseModel" (441 : Nat) ({ cls := "RegionHouseModel", name := "fail", desc := "(II)V" } : Jvm.MethodName)) ∈ lw_tbl := lw_at lw_m12 147 rfl
theorem qt3034 : (Jvm.Cond.instanceMethod ({ cls := "RegionHouseModel", name := "fail", desc := "(II)V" } : Jvm.MethodName)) ∈ lw_tbl := lw_at lw_m12 149 rfl
theorem qt3035 : (Jvm.Cond.code ({ cls := "RegionHouseModel", name := "fail", desc := "(II)V" } : Jvm.MethodName) prog_16_method_6_code (3 : Nat) (Option.none : Option Jvm.ClassFile.FieldType)) ∈ lw_tbl := lw_at lw_m12 150 rfl
theorem qt3036 : (Jvm.Cond.methodLink "RegionHouseModel" (445 : Nat) ({ cls := "RegionHouseModel", name := "wordOf", desc := "(I)Ljava/lang/String;" } : Jvm.MethodName)) ∈ lw_tbl := lw_at lw_m12 151 rfl
theorem qt3037 : (Jvm.Cond.static ({ cls := "RegionHouseModel", name := "wordOf", desc := "(I)Ljava/lang/String;" } : Jvm.MethodName)) ∈ lw_tbl := lw_at lw_m12 152 rfl
theorem qt3038 : (Jvm.Cond.code ({ cls := "RegionHouseModel", name := "wordOf", desc := "(I)Ljava/lang/String;" } : Jvm.MethodName) prog_16_method_11_code (1 : Nat) (Option.some (Jvm.ClassFile.FieldType.object "java/lang/String"))) ∈ lw_tbl := lw_at lw_m12 153 rfl
theorem qt3052 : (Jvm.Cond.methodLink "RegionHouseModel" (449 : Nat) ({ cls := "RegionHouseModel", name := "isWord", desc := "(Ljava/lang/String;II)Z" } : Jvm.MethodName)) ∈ lw_tbl := lw_at lw_m12 167 rfl
theorem qt3054 : (Jvm.Cond.instanceMethod ({ cls := "RegionHouseModel", name := "isWord", desc := "(Ljava/lang/String;II)Z" } : Jvm.MethodName)) ∈ lw_tbl := lw_at lw_m12 169 rfl
theorem qt3055 : (Jvm.Cond.code ({ cls := "RegionHouseModel", name := "isWord", desc := "(Ljava/lang/String;II)Z" } : Jvm.MethodName) prog_16_method_10_code (6 : Nat) (Option.some Jvm.ClassFile.FieldType.boolean)) ∈ lw_tbl := lw_at lw_m12 170 rfl
theorem qt3056 : (Jvm.Cond.methodLink "RegionHouseModel" (388 : Nat) ({ cls := "java/lang/String", name := "length", desc := "()I" } : Jvm.MethodName)) ∈ lw_tbl := lw_at lw_m12 171 rfl
theorem qt3057 : (Jvm.Cond.methodLink "RegionHouseModel" (394 : Nat) ({ cls := "java/lang/String", name := "charAt", desc := "(I)C" } : Jvm.MethodName)) ∈ lw_tbl := lw_at lw_m12 172 rfl
theorem qt3058 : (Jvm.Cond.methodLink "RegionHouseModel" (453 : Nat) ({ cls := "RegionHouseModel", name := "add", desc := "(IIII)V" } : Jvm.MethodName)) ∈ lw_tbl := lw_at lw_m12 173 rfl
theorem qt3060 : (Jvm.Cond.instanceMethod ({ cls := "RegionHouseModel", name := "add", desc := "(IIII)V" } : Jvm.MethodName)) ∈ lw_tbl := lw_at lw_m12 175 rfl
theorem qt3061 : (Jvm.Cond.code ({ cls := "RegionHouseModel", name := "add", desc := "(IIII)V" } : Jvm.MethodName) prog_16_method_12_code (5 : Nat) (Option.none : Option Jvm.ClassFile.FieldType)) ∈ lw_tbl := lw_at lw_m12 176 rfl
theorem qt3062 : (Jvm.Cond.methodLink "RegionHouseModel" (457 : Nat) ({ cls := "RegionHouseModel", name := "nameOf", desc := "(II)I" } : Jvm.MethodName)) ∈ lw_tbl := lw_at lw_m12 177 rfl
theorem qt3064 : (Jvm.Cond.instanceMethod ({ cls := "RegionHouseModel", name := "nameOf", desc := "(II)I" } : Jvm.MethodName)) ∈ lw_tbl := lw_at lw_m12 179 rfl
theorem qt3065 : (Jvm.Cond.code ({ cls := "RegionHouseModel", name := "nameOf", desc := "(II)I" } : Jvm.MethodName) prog_16_method_13_code (6 : Nat) (Option.some Jvm.ClassFile.FieldType.int)) ∈ lw_tbl := lw_at lw_m12 180 rfl
theorem qt3066 : (Jvm.Cond.methodLink "RegionHouseModel" (464 : Nat) ({ cls := "RegionHouseModel", name := "addNumber", desc := "(II)V" } : Jvm.MethodName)) ∈ lw_tbl := lw_at lw_m12 181 rfl
theorem qt3068 : (Jvm.Cond.instanceMethod ({ cls := "RegionHouseModel", name := "addNumber", desc := "(II)V" } : Jvm.MethodName)) ∈ lw_tbl := lw_at lw_m12 183 rfl
theorem qt3069 : (Jvm.Cond.code ({ cls := "RegionHouseModel", name := "addNumber", desc := "(II)V" } : Jvm.MethodName) prog_16_method_15_code (5 : Nat) (Option.none : Option Jvm.ClassFile.FieldType)) ∈ lw_tbl := lw_at lw_m12 184 rfl
theorem qt3070 : (Jvm.Cond.methodLink "RegionHouseModel" (467 : Nat) ({ cls := "RegionHouseModel", name := "signKind", desc := "(I)I" } : Jvm.MethodName)) ∈ lw_tbl := lw_at lw_m12 185 rfl
theorem qt3072 : (Jvm.Cond.instanceMethod ({ cls := "RegionHouseModel", name := "signKind", desc := "(I)I" } : Jvm.MethodName)) ∈ lw_tbl := lw_at lw_m12 187 rfl
theorem qt3073 : (Jvm.Cond.code ({ cls := "RegionHouseModel", name := "signKind", desc := "(I)I" } : Jvm.MethodName) prog_16_method_16_code (4 : Nat) (Option.some Jvm.ClassFile.FieldType.int)) ∈ lw_tbl := lw_at lw_m12 188 rfl
theorem qt3074 : (Jvm.Cond.methodLink "RegionHouseModel" (767 : Nat) ({ cls := "RegionHouseModel", name := "readProgram", desc := "()V" } : Jvm.MethodName)) ∈ lw_tbl := lw_at lw_m12 189 rfl
theorem qt3076 : (Jvm.Cond.instanceMethod ({ cls := "RegionHouseModel", name := "readProgram", desc := "()V" } : Jvm.MethodName)) ∈ lw_tbl := lw_at lw_m12 191 rfl
theorem qt3077 : (Jvm.Cond.code ({ cls := "RegionHouseModel", name := "readProgram", desc := "()V" } : Jvm.MethodName) prog_16_method_49_code (3 : Nat) (Option.none : Option Jvm.ClassFile.FieldType)) ∈ lw_tbl := lw_at lw_m12 192 rfl
theorem qt3078 : (Jvm.Cond.methodLink "RegionHouseModel" (485 : Nat) ({ cls := "RegionHouseModel", name := "kind", desc := "()I" } : Jvm.MethodName)) ∈ lw_tbl := lw_at lw_m12 193 rfl
theorem qt3080 : (Jvm.Cond.instanceMethod ({ cls := "RegionHouseModel", name := "kind", desc := "()I" } : Jvm.MethodName)) ∈ lw_tbl := lw_at lw_m12 195 rfl
theorem qt3081 : (Jvm.Cond.code ({ cls := "RegionHouseModel", name := "kind", desc := "()I" } : Jvm.MethodName) prog_16_method_18_code (1 : Nat) (Option.some Jvm.ClassFile.FieldType.int)) ∈ lw_tbl := lw_at lw_m12 196 rfl
theorem qt3082 : (Jvm.Cond.methodLink "RegionHouseModel" (600 : Nat) ({ cls := "RegionHouseModel", name := "readFunction", desc := "()V" } : Jvm.MethodName)) ∈ lw_tbl := lw_at lw_m12 197 rfl
theorem qt3084 : (Jvm.Cond.instanceMethod ({ cls := "RegionHouseModel", name := "readFunction", desc := "()V" } : Jvm.MethodName)) ∈ lw_tbl := lw_at lw_m12 199 rfl
theorem qt3085 : (Jvm.Cond.code ({ cls := "RegionHouseModel", name := "readFunction", desc := "()V" } : Jvm.MethodName) prog_16_method_47_code (4 : Nat) (Option.none : Option Jvm.ClassFile.FieldType)) ∈ lw_tbl := lw_at lw_m12 200 rfl
theorem qt3086 : (Jvm.Cond.methodLink "RegionHouseModel" (591 : Nat) ({ cls := "RegionHouseModel", name := "beginScopes", desc := "()V" } : Jvm.MethodName)) ∈ lw_tbl := lw_at lw_m12 201 rfl
theorem qt3088 : (Jvm.Cond.instanceMethod ({ cls := "RegionHouseModel", name := "beginScopes", desc := "()V" } : Jvm.MethodName)) ∈ lw_tbl := lw_at lw_m12 203 rfl
theorem qt3089 : (Jvm.Cond.code ({ cls := "RegionHouseModel", name := "beginScopes", desc := "()V" } : Jvm.MethodName) prog_16_method_46_code (1 : Nat) (Option.none : Option Jvm.ClassFile.FieldType)) ∈ lw_tbl := lw_at lw_m12 204 rfl
theorem qt3090 : (Jvm.Cond.methodLink "RegionHouseModel" (500 : Nat) ({ cls := "RegionHouseModel", name := "functionOf", desc := "(I)I" } : Jvm.MethodName)) ∈ lw_tbl := lw_at lw_m12 205 rfl
theorem qt3092 : (Jvm.Cond.instanceMethod ({ cls := "RegionHouseModel", name := "functionOf", desc := "(I)I" } : Jvm.MethodName)) ∈ lw_tbl := lw_at lw_m12 207 rfl
theorem qt3093 : (Jvm.Cond.code ({ cls := "RegionHouseModel", name := "functionOf", desc := "(I)I" } : Jvm.MethodName) prog_16_method_25_code (3 : Nat) (Option.some Jvm.ClassFile.FieldType.int)) ∈ lw_tbl := lw_at lw_m12 208 rfl
theorem qt3094 : (Jvm.Cond.methodLink "RegionHouseModel" (519 : Nat) ({ cls := "RegionHouseModel", name := "take", desc := "(I)Z" } : Jvm.MethodName)) ∈ lw_tbl := lw_at lw_m12 209 rfl
theorem qt3096 : (Jvm.Cond.instanceMethod ({ cls := "RegionHouseModel", name := "take", desc := "(I)Z" } : Jvm.MethodName)) ∈ lw_tbl := lw_at lw_m12 211 rfl
theorem qt3097 : (Jvm.Cond.code ({ cls := "RegionHouseModel", name := "take", desc := "(I)Z" } : Jvm.MethodName) prog_16_method_23_code (2 : Nat) (Option.some Jvm.ClassFile.FieldType.boolean)) ∈ lw_tbl := lw_at lw_m12 212 rfl
theorem qt3098 : (Jvm.Cond.methodLink "RegionHouseModel" (594 : Nat) ({ cls := "RegionHouseModel", name := "takeParameter", desc := "(I)I" } : Jvm.MethodName)) ∈ lw_tbl := lw_at lw_m12 213 rfl
theorem qt3100 : (Jvm.Cond.instanceMethod ({ cls := "RegionHouseModel", name := "takeParameter", desc := "(I)I" } : Jvm.MethodName)) ∈ lw_tbl := lw_at lw_m12 215 rfl
theorem qt3101 : (Jvm.Cond.code ({ cls := "RegionHouseModel", name := "takeParameter", desc := "(I)I" } : Jvm.MethodName) prog_16_method_48_code (3 : Nat) (Option.some Jvm.ClassFile.FieldType.int)) ∈ lw_tbl := lw_at lw_m12 216 rfl
theorem qt3102 : (Jvm.Cond.methodLink "RegionHouseModel" (497 : Nat) ({ cls := "RegionHouseModel", name := "variableOf", desc := "(I)I" } : Jvm.MethodName)) ∈ lw_tbl := lw_at lw_m12 217 rfl
theorem qt3104 : (Jvm.Cond.instanceMethod ({ cls := "RegionHouseModel", name := "variableOf", desc := "(I)I" } : Jvm.MethodName)) ∈ lw_tbl := lw_at lw_m12 219 rfl
theorem qt3105 : (Jvm.Cond.code ({ cls := "RegionHouseModel", name := "variableOf", desc := "(I)I" } : Jvm.MethodName) prog_16_method_24_code (3 : Nat) (Option.some Jvm.ClassFile.FieldType.int)) ∈ lw_tbl := lw_at lw_m12 220 rfl
theorem qt3106 : (Jvm.Cond.methodLink "RegionHouseModel" (516 : Nat) ({ cls := "RegionHouseModel", name := "takeVariable", desc := "()I" } : Jvm.MethodName)) ∈ lw_tbl := lw_at lw_m12 221 rfl
theorem qt3108 : (Jvm.Cond.instanceMethod ({ cls := "RegionHouseModel", name := "takeVariable", desc := "()I" } : Jvm.MethodName)) ∈ lw_tbl := lw_at lw_m12 223 rfl
theorem qt3109 : (Jvm.Cond.code ({ cls := "RegionHouseModel", name := "takeVariable", desc := "()I" } : Jvm.MethodName) prog_16_method_26_code (3 : Nat) (Option.some Jvm.ClassFile.FieldType.int)) ∈ lw_tbl := lw_at lw_m12 224 rfl
theorem qt3110 : (Jvm.Cond.methodLink "RegionHouseModel" (522 : Nat) ({ cls := "RegionHouseModel", name := "open", desc := "(I)V" } : Jvm.MethodName)) ∈ lw_tbl := lw_at lw_m12 225 rfl
theorem qt3112 : (Jvm.Cond.instanceMethod ({ cls := "RegionHouseModel", name := "open", desc := "(I)V" } : Jvm.MethodName)) ∈ lw_tbl := lw_at lw_m12 227 rfl
theorem qt3113 : (Jvm.Cond.code ({ cls := "RegionHouseModel", name := "open", desc := "(I)V" } : Jvm.MethodName) prog_16_method_27_code (2 : Nat) (Option.none : Option Jvm.ClassFile.FieldType)) ∈ lw_tbl := lw_at lw_m12 228 rfl
theorem qt3114 : (Jvm.Cond.methodLink "RegionHouseModel" (597 : Nat) ({ cls := "RegionHouseModel", name := "readBody", desc := "(I)V" } : Jvm.MethodName)) ∈ lw_tbl := lw_at lw_m12 229 rfl
theorem qt3116 : (Jvm.Cond.instanceMethod ({ cls := "RegionHouseModel", name := "readBody", desc := "(I)V" } : Jvm.MethodName)) ∈ lw_tbl := lw_at lw_m12 231 rfl
theorem qt3117 : (Jvm.Cond.code ({ cls := "RegionHouseModel", name := "readBody", desc := "(I)V" } : Jvm.MethodName) prog_16_method_45_code (2 : Nat) (Option.none : Option Jvm.ClassFile.FieldType)) ∈ lw_tbl := lw_at lw_m12 232 rfl
theorem qt3118 : (Jvm.Cond.methodLink "RegionHouseModel" (512 : Nat) ({ cls := "RegionHouseModel", name := "push", desc := "(III)V" } : Jvm.MethodName)) ∈ lw_tbl := lw_at lw_m12 233 rfl
theorem qt3120 : (Jvm.Cond.instanceMethod ({ cls := "RegionHouseModel", name := "push", desc := "(III)V" } : Jvm.MethodName)) ∈ lw_tbl := lw_at lw_m12 235 rfl
theorem qt3121 : (Jvm.Cond.code ({ cls := "RegionHouseModel", name := "push", desc := "(III)V" } : Jvm.MethodName) prog_16_method_19_code (4 : Nat) (Option.none : Option Jvm.ClassFile.FieldType)) ∈ lw_tbl := lw_at lw_m12 236 rfl
theorem qt3122 : (Jvm.Cond.methodLink "RegionHouseModel" (588 : Nat) ({ cls := "RegionHouseModel", name := "readNext", desc := "()V" } : Jvm.MethodName)) ∈ lw_tbl := lw_at lw_m12 237 rfl
theorem qt3124 : (Jvm.Cond.instanceMethod ({ cls := "RegionHouseModel", name := "readNext", desc := "()V" } : Jvm.MethodName)) ∈ lw_tbl := lw_at lw_m12 239 rfl
theorem qt3125 : (Jvm.Cond.code ({ cls := "RegionHouseModel", name := "readNext", desc := "()V" } : Jvm.MethodName) prog_16_method_44_code (5 : Nat) (Option.none : Option Jvm.ClassFile.FieldType)) ∈ lw_tbl := lw_at lw_m13 0 rfl
theorem qt3126 : (Jvm.Cond.methodLink "RegionHouseModel" (567 : Nat) ({ cls := "RegionHouseModel", name := "readE", desc := "()V" } : Jvm.MethodName)) ∈ lw_tbl := lw_at lw_m13 1 rfl
theorem qt3128 : (Jvm.Cond.instanceMethod ({ cls := "RegionHouseModel", name := "readE", desc := "()V" } : Jvm.MethodName)) ∈ lw_tbl := lw_at lw_m13 3 rfl
theorem qt3129 : (Jvm.Cond.code ({ cls := "RegionHouseModel", name := "readE", desc := "()V" } : Jvm.MethodName) prog_16_method_29_code (3 : Nat) (Option.none : Option Jvm.ClassFile.FieldType)) ∈ lw_tbl := lw_at lw_m13 4 rfl
theorem qt3130 : (Jvm.Cond.methodLink "RegionHouseModel" (570 : Nat) ({ cls := "RegionHouseModel", name := "readAtom", desc := "()V" } : Jvm.MethodName)) ∈ lw_tbl := lw_at lw_m13 5 rfl
theorem qt3132 : (Jvm.Cond.instanceMethod ({ cls := "RegionHouseModel", name := "readAtom", desc := "()V" } : Jvm.MethodName)) ∈ lw_tbl := lw_at lw_m13 7 rfl
theorem qt3133 : (Jvm.Cond.code ({ cls := "RegionHouseModel", name := "readAtom", desc := "()V" } : Jvm.MethodName) prog_16_method_33_code (3 : Nat) (Option.none : Option Jvm.ClassFile.FieldType)) ∈ lw_tbl := lw_at lw_m13 8 rfl
theorem qt3134 : (Jvm.Cond.methodLink "RegionHouseModel" (529 : Nat) ({ cls := "RegionHouseModel", name := "part", desc := "(III)I" } : Jvm.MethodName)) ∈ lw_tbl := lw_at lw_m13 9 rfl
theorem qt3136 : (Jvm.Cond.instanceMethod ({ cls := "RegionHouseModel", name := "part", desc := "(III)I" } : Jvm.MethodName)) ∈ lw_tbl := lw_at lw_m13 11 rfl
theorem qt3137 : (Jvm.Cond.code ({ cls := "RegionHouseModel", name := "part", desc := "(III)I" } : Jvm.MethodName) prog_16_method_21_code (5 : Nat) (Option.some Jvm.ClassFile.FieldType.int)) ∈ lw_tbl := lw_at lw_m13 12 rfl
theorem qt3138 : (Jvm.Cond.methodLink "RegionHouseModel" (533 : Nat) ({ cls := "RegionHouseModel", name := "hold", desc := "(III)V" } : Jvm.MethodName)) ∈ lw_tbl := lw_at lw_m13 13 rfl
theorem qt3140 : (Jvm.Cond.instanceMethod ({ cls := "RegionHouseModel", name := "hold", desc := "(III)V" } : Jvm.MethodName)) ∈ lw_tbl := lw_at lw_m13 15 rfl
theorem qt3141 : (Jvm.Cond.code ({ cls := "RegionHouseModel", name := "hold", desc := "(III)V" } : Jvm.MethodName) prog_16_method_20_code (4 : Nat) (Option.none : Option Jvm.ClassFile.FieldType)) ∈ lw_tbl := lw_at lw_m13 16 rfl
theorem qt3142 : (Jvm.Cond.methodLink "RegionHouseModel" (536 : Nat) ({ cls := "RegionHouseModel", name := "readName", desc := "()V" } : Jvm.MethodName)) ∈ lw_tbl := lw_at lw_m13 17 rfl
theorem qt3144 : (Jvm.Cond.instanceMethod ({ cls := "RegionHouseModel", name := "readName", desc := "()V" } : Jvm.MethodName)) ∈ lw_tbl := lw_at lw_m13 19 rfl
theorem qt3145 : (Jvm.Cond.code ({ cls := "RegionHouseModel", name := "readName", desc := "()V" } : Jvm.MethodName) prog_16_method_32_code (5 : Nat) (Option.none : Option Jvm.ClassFile.FieldType)) ∈ lw_tbl := lw_at lw_m13 20 rfl
theorem qt3146 : (Jvm.Cond.methodLink "RegionHouseModel" (573 : Nat) ({ cls := "RegionHouseModel", name := "readOn", desc := "(I)V" } : Jvm.MethodName)) ∈ lw_tbl := lw_at lw_m13 21 rfl
theorem qt3148 : (Jvm.Cond.instanceMethod ({ cls := "RegionHouseModel", name := "readOn", desc := "(I)V" } : Jvm.MethodName)) ∈ lw_tbl := lw_at lw_m13 23 rfl
theorem qt3149 : (Jvm.Cond.code ({ cls := "RegionHouseModel", name := "readOn", desc := "(I)V" } : Jvm.MethodName) prog_16_method_36_code (3 : Nat) (Option.none : Option Jvm.ClassFile.FieldType)) ∈ lw_tbl := lw_at lw_m13 24 rfl
theorem qt3150 : (Jvm.Cond.methodLink "RegionHouseModel" (539 : Nat) ({ cls := "RegionHouseModel", name := "readSign", desc := "(II)V" } : Jvm.MethodName)) ∈ lw_tbl := lw_at lw_m13 25 rfl
theorem qt3152 : (Jvm.Cond.instanceMethod ({ cls := "RegionHouseModel", name := "readSign", desc := "(II)V" } : Jvm.MethodName)) ∈ lw_tbl := lw_at lw_m13 27 rfl
theorem qt3153 : (Jvm.Cond.code ({ cls := "RegionHouseModel", name := "readSign", desc := "(II)V" } : Jvm.MethodName) prog_16_method_35_code (4 : Nat) (Option.none : Option Jvm.ClassFile.FieldType)) ∈ lw_tbl := lw_at lw_m13 28 rfl
theorem qt3154 : (Jvm.Cond.methodLink "RegionHouseModel" (542 : Nat) ({ cls := "RegionHouseModel", name := "isAtom", desc := "()Z" } : Jvm.MethodName)) ∈ lw_tbl := lw_at lw_m13 29 rfl
theorem qt3156 : (Jvm.Cond.instanceMethod ({ cls := "RegionHouseModel", name := "isAtom", desc := "()Z" } : Jvm.MethodName)) ∈ lw_tbl := lw_at lw_m13 31 rfl
theorem qt3157 : (Jvm.Cond.code ({ cls := "RegionHouseModel", name := "isAtom", desc := "()Z" } : Jvm.MethodName) prog_16_method_34_code (2 : Nat) (Option.some Jvm.ClassFile.FieldType.boolean)) ∈ lw_tbl := lw_at lw_m13 32 rfl
theorem qt3158 : (Jvm.Cond.methodLink "RegionHouseModel" (576 : Nat) ({ cls := "RegionHouseModel", name := "readCaseNames", desc := "(I)V" } : Jvm.MethodName)) ∈ lw_tbl := lw_at lw_m13 33 rfl
theorem qt3160 : (Jvm.Cond.instanceMethod ({ cls := "RegionHouseModel", name := "readCaseNames", desc := "(I)V" } : Jvm.MethodName)) ∈ lw_tbl := lw_at lw_m13 35 rfl
theorem qt3161 : (Jvm.Cond.code ({ cls := "RegionHouseModel", name := "readCaseNames", desc := "(I)V" } : Jvm.MethodName) prog_16_method_30_code (4 : Nat) (Option.none : Option Jvm.ClassFile.FieldType)) ∈ lw_tbl := lw_at lw_m13 36 rfl
theorem qt3162 : (Jvm.Cond.methodLink "RegionHouseModel" (526 : Nat) ({ cls := "RegionHouseModel", name := "takeSecond", desc := "()I" } : Jvm.MethodName)) ∈ lw_tbl := lw_at lw_m13 37 rfl
theorem qt3164 : (Jvm.Cond.instanceMethod ({ cls := "RegionHouseModel", name := "takeSecond", desc := "()I" } : Jvm.MethodName)) ∈ lw_tbl := lw_at lw_m13 39 rfl
theorem qt3165 : (Jvm.Cond.code ({ cls := "RegionHouseModel", name := "takeSecond", desc := "()I" } : Jvm.MethodName) prog_16_method_31_code (1 : Nat) (Option.some Jvm.ClassFile.FieldType.int)) ∈ lw_tbl := lw_at lw_m13 40 rfl
theorem qt3166 : (Jvm.Cond.methodLink "RegionHouseModel" (579 : Nat) ({ cls := "RegionHouseModel", name := "readBehindE", desc := "(I)V" } : Jvm.MethodName)) ∈ lw_tbl := lw_at lw_m13 41 rfl
theorem qt3168 : (Jvm.Cond.instanceMethod ({ cls := "RegionHouseModel", name := "readBehindE", desc := "(I)V" } : Jvm.MethodName)) ∈ lw_tbl := lw_at lw_m13 43 rfl
theorem qt3169 : (Jvm.Cond.code ({ cls := "RegionHouseModel", name := "readBehindE", desc := "(I)V" } : Jvm.MethodName) prog_16_method_37_code (2 : Nat) (Option.none : Option Jvm.ClassFile.FieldType)) ∈ lw_tbl := lw_at lw_m13 44 rfl
theorem qt3170 : (Jvm.Cond.methodLink "RegionHouseModel" (582 : Nat) ({ cls := "RegionHouseModel", name := "readArguments", desc := "(II)V" } : Jvm.MethodName)) ∈ lw_tbl := lw_at lw_m13 45 rfl
theorem qt3172 : (Jvm.Cond.instanceMethod ({ cls := "RegionHouseModel", name := "readArguments", desc := "(II)V" } : Jvm.MethodName)) ∈ lw_tbl := lw_at lw_m13 47 rfl
theorem qt3173 : (Jvm.Cond.code ({ cls := "RegionHouseModel", name := "readArguments", desc := "(II)V" } : Jvm.MethodName) prog_16_method_38_code (6 : Nat) (Option.none : Option Jvm.ClassFile.FieldType)) ∈ lw_tbl := lw_at lw_m13 48 rfl
theorem qt3174 : (Jvm.Cond.methodLink "RegionHouseModel" (549 : Nat) ({ cls := "RegionHouseModel", name := "under", desc := "(II)V" } : Jvm.MethodName)) ∈ lw_tbl := lw_at lw_m13 49 rfl
theorem qt3176 : (Jvm.Cond.instanceMethod ({ cls := "RegionHouseModel", name := "under", desc := "(II)V" } : Jvm.MethodName)) ∈ lw_tbl := lw_at lw_m13 51 rfl
theorem qt3177 : (Jvm.Cond.code ({ cls := "RegionHouseModel", name := "under", desc := "(II)V" } : Jvm.MethodName) prog_16_method_22_code (3 : Nat) (Option.none : Option Jvm.ClassFile.FieldType)) ∈ lw_tbl := lw_at lw_m13 52 rfl
theorem qt3178 : (Jvm.Cond.methodLink "RegionHouseModel" (585 : Nat) ({ cls := "RegionHouseModel", name := "act", desc := "(III)V" } : Jvm.MethodName)) ∈ lw_tbl := lw_at lw_m13 53 rfl
theorem qt3180 : (Jvm.Cond.instanceMethod ({ cls := "RegionHouseModel", name := "act", desc := "(III)V" } : Jvm.MethodName)) ∈ lw_tbl := lw_at lw_m13 55 rfl
theorem qt3181 : (Jvm.Cond.code ({ cls := "RegionHouseModel", name := "act", desc := "(III)V" } : Jvm.MethodName) prog_16_method_42_code (5 : Nat) (Option.none : Option Jvm.ClassFile.FieldType)) ∈ lw_tbl := lw_at lw_m13 56 rfl
theorem qt3182 : (Jvm.Cond.methodLink "RegionHouseModel" (555 : Nat) ({ cls := "RegionHouseModel", name := "two", desc := "(I)I" } : Jvm.MethodName)) ∈ lw_tbl := lw_at lw_m13 57 rfl
theorem qt3184 : (Jvm.Cond.instanceMethod ({ cls := "RegionHouseModel", name := "two", desc := "(I)I" } : Jvm.MethodName)) ∈ lw_tbl := lw_at lw_m13 59 rfl
theorem qt3185 : (Jvm.Cond.code ({ cls := "RegionHouseModel", name := "two", desc := "(I)I" } : Jvm.MethodName) prog_16_method_40_code (3 : Nat) (Option.some Jvm.ClassFile.FieldType.int)) ∈ lw_tbl := lw_at lw_m13 60 rfl
theorem qt3186 : (Jvm.Cond.methodLink "RegionHouseModel" (552 : Nat) ({ cls := "RegionHouseModel", name := "child", desc := "(I)I" } : Jvm.MethodName)) ∈ lw_tbl := lw_at lw_m13 61 rfl
theorem qt3188 : (Jvm.Cond.instanceMethod ({ cls := "RegionHouseModel", name := "child", desc := "(I)I" } : Jvm.MethodName)) ∈ lw_tbl := lw_at lw_m13 63 rfl
theorem qt3189 : (Jvm.Cond.code ({ cls := "RegionHouseModel", name := "child", desc := "(I)I" } : Jvm.MethodName) prog_16_method_39_code (2 : Nat) (Option.some Jvm.ClassFile.FieldType.int)) ∈ lw_tbl := lw_at lw_m13 64 rfl
theorem qt3190 : (Jvm.Cond.methodLink "RegionHouseModel" (558 : Nat) ({ cls := "RegionHouseModel", name := "becomes", desc := "(II)V" } : Jvm.MethodName)) ∈ lw_tbl := lw_at lw_m13 65 rfl
theorem qt3192 : (Jvm.Cond.instanceMethod ({ cls := "RegionHouseModel", name := "becomes", desc := "(II)V" } : Jvm.MethodName)) ∈ lw_tbl := lw_at lw_m13 67 rfl
theorem qt3193 : (Jvm.Cond.code ({ cls := "RegionHouseModel", name := "becomes", desc := "(II)V" } : Jvm.MethodName) prog_16_method_41_code (3 : Nat) (Option.none : Option Jvm.ClassFile.FieldType)) ∈ lw_tbl := lw_at lw_m13 68 rfl
theorem qt3194 : (Jvm.Cond.methodLink "RegionHouseModel" (561 : Nat) ({ cls := "RegionHouseModel", name := "close", desc := "(I)V" } : Jvm.MethodName)) ∈ lw_tbl := lw_at lw_m13 69 rfl
theorem qt3196 : (Jvm.Cond.instanceMethod ({ cls := "RegionHouseModel", name := "close", desc := "(I)V" } : Jvm.MethodName)) ∈ lw_tbl := lw_at lw_m13 71 rfl
theorem qt3197 : (Jvm.Cond.code ({ cls := "RegionHouseModel", name := "close", desc := "(I)V" } : Jvm.MethodName) prog_16_method_28_code (3 : Nat) (Option.none : Option Jvm.ClassFile.FieldType)) ∈ lw_tbl := lw_at lw_m13 72 rfl
theorem qt3198 : (Jvm.Cond.methodLink "RegionHouseModel" (564 : Nat) ({ cls := "RegionHouseModel", name := "actThree", desc := "(III)V" } : Jvm.MethodName)) ∈ lw_tbl := lw_at lw_m13 73 rfl
theorem qt3200 : (Jvm.Cond.instanceMethod ({ cls := "RegionHouseModel", name := "actThree", desc := "(III)V" } : Jvm.MethodName)) ∈ lw_tbl := lw_at lw_m13 75 rfl
theorem qt3201 : (Jvm.Cond.code ({ cls := "RegionHouseModel", name := "actThree", desc := "(III)V" } : Jvm.MethodName) prog_16_method_43_code (6 : Nat) (Option.none : Option Jvm.ClassFile.FieldType)) ∈ lw_tbl := lw_at lw_m13 76 rfl
theorem qt3202 : (Jvm.Cond.methodLink "RegionHouseModel" (603 : Nat) ({ cls := "RegionHouseModel", name := "checkDepth", desc := "()V" } : Jvm.MethodName)) ∈ lw_tbl := lw_at lw_m13 77 rfl
theorem qt3204 : (Jvm.Cond.instanceMethod ({ cls := "RegionHouseModel", name := "checkDepth", desc := "()V" } : Jvm.MethodName)) ∈ lw_tbl := lw_at lw_m13 79 rfl
theorem qt3205 : (Jvm.Cond.code ({ cls := "RegionHouseModel", name := "checkDepth", desc := "()V" } : Jvm.MethodName) prog_16_method_50_code (4 : Nat) (Option.none : Option Jvm.ClassFile.FieldType)) ∈ lw_tbl := lw_at lw_m13 80 rfl
theorem qt3206 : (Jvm.Cond.methodLink "RegionHouseModel" (610 : Nat) ({ cls := "RegionHouseModel", name := "newType", desc := "(III)I" } : Jvm.MethodName)) ∈ lw_tbl := lw_at lw_m13 81 rfl
theorem qt3208 : (Jvm.Cond.instanceMethod ({ cls := "RegionHouseModel", name := "newType", desc := "(III)I" } : Jvm.MethodName)) ∈ lw_tbl := lw_at lw_m13 83 rfl
theorem qt3209 : (Jvm.Cond.code ({ cls := "RegionHouseModel", name := "newType", desc := "(III)I" } : Jvm.MethodName) prog_16_method_51_code (5 : Nat) (Option.some Jvm.ClassFile.FieldType.int)) ∈ lw_tbl := lw_at lw_m13 84 rfl
theorem qt3210 : (Jvm.Cond.constant "RegionHouseModel" (609 : Nat) (99999 : Int32)) ∈ lw_tbl := lw_at lw_m13 85 rfl
theorem qt3211 : (Jvm.Cond.methodLink "RegionHouseModel" (770 : Nat) ({ cls := "RegionHouseModel", name := "typesOf", desc := "(I)V" } : Jvm.MethodName)) ∈ lw_tbl := lw_at lw_m13 86 rfl
theorem qt3213 : (Jvm.Cond.instanceMethod ({ cls := "RegionHouseModel", name := "typesOf", desc := "(I)V" } : Jvm.MethodName)) ∈ lw_tbl := lw_at lw_m13 88 rfl
theorem qt3214 : (Jvm.Cond.code ({ cls := "RegionHouseModel", name := "typesOf", desc := "(I)V" } : Jvm.MethodName) prog_16_method_68_code (3 : Nat) (Option.none : Option Jvm.ClassFile.FieldType)) ∈ lw_tbl := lw_at lw_m13 89 rfl
theorem qt3215 : (Jvm.Cond.methodLink "RegionHouseModel" (653 : Nat) ({ cls := "RegionHouseModel", name := "unknown", desc := "()I" } : Jvm.MethodName)) ∈ lw_tbl := lw_at lw_m13 90 rfl
theorem qt3217 : (Jvm.Cond.instanceMethod ({ cls := "RegionHouseModel", name := "unknown", desc := "()I" } : Jvm.MethodName)) ∈ lw_tbl := lw_at lw_m13 92 rfl
theorem qt3218 : (Jvm.Cond.code ({ cls := "RegionHouseModel", name := "unknown", desc := "()I" } : Jvm.MethodName) prog_16_method_53_code (1 : Nat) (Option.some Jvm.ClassFile.FieldType.int)) ∈ lw_tbl := lw_at lw_m13 93 rfl
theorem qt3219 : (Jvm.Cond.methodLink "RegionHouseModel" (665 : Nat) ({ cls := "RegionHouseModel", name := "typeOf", desc := "(II)I" } : Jvm.MethodName)) ∈ lw_tbl := lw_at lw_m13 94 rfl
theorem qt3221 : (Jvm.Cond.instanceMethod ({ cls := "RegionHouseModel", name := "typeOf", desc := "(II)I" } : Jvm.MethodName)) ∈ lw_tbl := lw_at lw_m13 96 rfl
theorem qt3222 : (Jvm.Cond.code ({ cls := "RegionHouseModel", name := "typeOf", desc := "(II)I" } : Jvm.MethodName) prog_16_method_65_code (4 : Nat) (Option.some Jvm.ClassFile.FieldType.int)) ∈ lw_tbl := lw_at lw_m13 97 rfl
theorem qt3223 : (Jvm.Cond.methodLink "RegionHouseModel" (656 : Nat) ({ cls := "RegionHouseModel", name := "firstCopy", desc := "(I)I" } : Jvm.MethodName)) ∈ lw_tbl := lw_at lw_m13 98 rfl
theorem qt3225 : (Jvm.Cond.instanceMethod ({ cls := "RegionHouseModel", name := "firstCopy", desc := "(I)I" } : Jvm.MethodName)) ∈ lw_tbl := lw_at lw_m13 100 rfl
theorem qt3226 : (Jvm.Cond.code ({ cls := "RegionHouseModel", name := "firstCopy", desc := "(I)I" } : Jvm.MethodName) prog_16_method_64_code (4 : Nat) (Option.some Jvm.ClassFile.FieldType.int)) ∈ lw_tbl := lw_at lw_m13 101 rfl
theorem qt3227 : (Jvm.Cond.methodLink "RegionHouseModel" (650 : Nat) ({ cls := "RegionHouseModel", name := "copyOf", desc := "(I)I" } : Jvm.MethodName)) ∈ lw_tbl := lw_at lw_m13 102 rfl
theorem qt3229 : (Jvm.Cond.instanceMethod ({ cls := "RegionHouseModel", name := "copyOf", desc := "(I)I" } : Jvm.MethodName)) ∈ lw_tbl := lw_at lw_m13 104 rfl
theorem qt3230 : (Jvm.Cond.code ({ cls := "RegionHouseModel", name := "copyOf", desc := "(I)I" } : Jvm.MethodName) prog_16_method_61_code (9 : Nat) (Option.some Jvm.ClassFile.FieldType.int)) ∈ lw_tbl := lw_at lw_m13 105 rfl
theorem qt3231 : (Jvm.Cond.methodLink "RegionHouseModel" (616 : Nat) ({ cls := "RegionHouseModel", name := "find", desc := "(I)I" } : Jvm.MethodName)) ∈ lw_tbl := lw_at lw_m13 106 rfl
theorem qt3233 : (Jvm.Cond.instanceMethod ({ cls := "RegionHouseModel", name := "find", desc := "(I)I" } : Jvm.MethodName)) ∈ lw_tbl := lw_at lw_m13 108 rfl
theorem qt3234 : (Jvm.Cond.code ({ cls := "RegionHouseModel", name := "find", desc := "(I)I" } : Jvm.MethodName) prog_16_method_52_code (5 : Nat) (Option.some Jvm.ClassFile.FieldType.int)) ∈ lw_tbl := lw_at lw_m13 109 rfl
theorem qt3235 : (Jvm.Cond.methodLink "RegionHouseModel" (641 : Nat) ({ cls := "RegionHouseModel", name := "seen", desc := "(I)I" } : Jvm.MethodName)) ∈ lw_tbl := lw_at lw_m13 110 rfl
theorem qt3237 : (Jvm.Cond.instanceMethod ({ cls := "RegionHouseModel", name := "seen", desc := "(I)I" } : Jvm.MethodName)) ∈ lw_tbl := lw_at lw_m13 112 rfl
theorem qt3238 : (Jvm.Cond.code ({ cls := "RegionHouseModel", name := "seen", desc := "(I)I" } : Jvm.MethodName) prog_16_method_62_code (2 : Nat) (Option.some Jvm.ClassFile.FieldType.int)) ∈ lw_tbl := lw_at lw_m13 113 rfl
theorem qt3239 : (Jvm.Cond.methodLink "RegionHouseModel" (644 : Nat) ({ cls := "RegionHouseModel", name := "meet", desc := "(II)I" } : Jvm.MethodName)) ∈ lw_tbl := lw_at lw_m13 114 rfl
theorem qt3241 : (Jvm.Cond.instanceMethod ({ cls := "RegionHouseModel", name := "meet", desc := "(II)I" } : Jvm.MethodName)) ∈ lw_tbl := lw_at lw_m13 116 rfl
theorem qt3242 : (Jvm.Cond.code ({ cls := "RegionHouseModel", name := "meet", desc := "(II)I" } : Jvm.MethodName) prog_16_method_63_code (3 : Nat) (Option.some Jvm.ClassFile.FieldType.int)) ∈ lw_tbl := lw_at lw_m13 117 rfl
theorem qt3243 : (Jvm.Cond.methodLink "RegionHouseModel" (668 : Nat) ({ cls := "RegionHouseModel", name := "wants", desc := "(II)Z" } : Jvm.MethodName)) ∈ lw_tbl := lw_at lw_m13 118 rfl
theorem qt3245 : (Jvm.Cond.instanceMethod ({ cls := "RegionHouseModel", name := "wants", desc := "(II)Z" } : Jvm.MethodName)) ∈ lw_tbl := lw_at lw_m13 120 rfl
theorem qt3246 : (Jvm.Cond.code ({ cls := "RegionHouseModel", name := "wants", desc := "(II)Z" } : Jvm.MethodName) prog_16_method_66_code (8 : Nat) (Option.some Jvm.ClassFile.FieldType.boolean)) ∈ lw_tbl := lw_at lw_m13 121 rfl
theorem qt3247 : (Jvm.Cond.methodLink "RegionHouseModel" (659 : Nat) ({ cls := "RegionHouseModel", name := "alike", desc := "(II)Z" } : Jvm.MethodName)) ∈ lw_tbl := lw_at lw_m13 122 rfl
theorem qt3249 : (Jvm.Cond.instanceMethod ({ cls := "RegionHouseModel", name := "alike", desc := "(II)Z" } : Jvm.MethodName)) ∈ lw_tbl := lw_at lw_m13 124 rfl
theorem qt3250 : (Jvm.Cond.code ({ cls := "RegionHouseModel", name := "alike", desc := "(II)Z" } : Jvm.MethodName) prog_16_method_58_code (7 : Nat) (Option.some Jvm.ClassFile.FieldType.boolean)) ∈ lw_tbl := lw_at lw_m13 125 rfl
theorem qt3251 : (Jvm.Cond.methodLink "RegionHouseModel" (628 : Nat) ({ cls := "RegionHouseModel", name := "standsIn", desc := "(II)Z" } : Jvm.MethodName)) ∈ lw_tbl := lw_at lw_m13 126 rfl
theorem qt3253 : (Jvm.Cond.instanceMethod ({ cls := "RegionHouseModel", name := "standsIn", desc := "(II)Z" } : Jvm.MethodName)) ∈ lw_tbl := lw_at lw_m13 128 rfl
theorem qt3254 : (Jvm.Cond.code ({ cls := "RegionHouseModel", name := "standsIn", desc := "(II)Z" } : Jvm.MethodName) prog_16_method_57_code (5 : Nat) (Option.some Jvm.ClassFile.FieldType.boolean)) ∈ lw_tbl := lw_at lw_m13 129 rfl
theorem qt3255 : (Jvm.Cond.methodLink "RegionHouseModel" (619 : Nat) ({ cls := "RegionHouseModel", name := "meets", desc := "(II)I" } : Jvm.MethodName)) ∈ lw_tbl := lw_at lw_m13 130 rfl
theorem qt3257 : (Jvm.Cond.instanceMethod ({ cls := "RegionHouseModel", name := "meets", desc := "(II)I" } : Jvm.MethodName)) ∈ lw_tbl := lw_at lw_m13 132 rfl
theorem qt3258 : (Jvm.Cond.code ({ cls := "RegionHouseModel", name := "meets", desc := "(II)I" } : Jvm.MethodName) prog_16_method_73_code (4 : Nat) (Option.some Jvm.ClassFile.FieldType.int)) ∈ lw_tbl := lw_at lw_m13 133 rfl
theorem qt3259 : (Jvm.Cond.methodLink "RegionHouseModel" (632 : Nat) ({ cls := "RegionHouseModel", name := "joinHolds", desc := "(II)V" } : Jvm.MethodName)) ∈ lw_tbl := lw_at lw_m13 134 rfl
theorem qt3261 : (Jvm.Cond.instanceMethod ({ cls := "RegionHouseModel", name := "joinHolds", desc := "(II)V" } : Jvm.MethodName)) ∈ lw_tbl := lw_at lw_m13 136 rfl
theorem qt3262 : (Jvm.Cond.code ({ cls := "RegionHouseModel", name := "joinHolds", desc := "(II)V" } : Jvm.MethodName) prog_16_method_60_code (6 : Nat) (Option.none : Option Jvm.ClassFile.FieldType)) ∈ lw_tbl := lw_at lw_m13 137 rfl
theorem qt3263 : (Jvm.Cond.methodLink "RegionHouseModel" (638 : Nat) ({ cls := "RegionHouseModel", name := "markHeld", desc := "(I)V" } : Jvm.MethodName)) ∈ lw_tbl := lw_at lw_m13 138 rfl
theorem qt3265 : (Jvm.Cond.instanceMethod ({ cls := "RegionHouseModel", name := "markHeld", desc := "(I)V" } : Jvm.MethodName)) ∈ lw_tbl := lw_at lw_m13 140 rfl
theorem qt3266 : (Jvm.Cond.code ({ cls := "RegionHouseModel", name := "markHeld", desc := "(I)V" } : Jvm.MethodName) prog_16_method_54_code (3 : Nat) (Option.none : Option Jvm.ClassFile.FieldType)) ∈ lw_tbl := lw_at lw_m13 141 rfl
theorem qt3267 : (Jvm.Cond.methodLink "RegionHouseModel" (635 : Nat) ({ cls := "RegionHouseModel", name := "ring", desc := "(I)Z" } : Jvm.MethodName)) ∈ lw_tbl := lw_at lw_m13 142 rfl
theorem qt3269 : (Jvm.Cond.instanceMethod ({ cls := "RegionHouseModel", name := "ring", desc := "(I)Z" } : Jvm.MethodName)) ∈ lw_tbl := lw_at lw_m13 144 rfl
theorem qt3270 : (Jvm.Cond.code ({ cls := "RegionHouseModel", name := "ring", desc := "(I)Z" } : Jvm.MethodName) prog_16_method_59_code (7 : Nat) (Option.some Jvm.ClassFile.FieldType.boolean)) ∈ lw_tbl := lw_at lw_m13 145 rfl
theorem qt3271 : (Jvm.Cond.methodLink "RegionHouseModel" (662 : Nat) ({ cls := "RegionHouseModel", name := "wanted", desc := "(III)I" } : Jvm.MethodName)) ∈ lw_tbl := lw_at lw_m13 146 rfl
theorem qt3273 : (Jvm.Cond.instanceMethod ({ cls := "RegionHouseModel", name := "wanted", desc := "(III)I" } : Jvm.MethodName)) ∈ lw_tbl := lw_at lw_m13 148 rfl
theorem qt3274 : (Jvm.Cond.code ({ cls := "RegionHouseModel", name := "wanted", desc := "(III)I" } : Jvm.MethodName) prog_16_method_67_code (6 : Nat) (Option.some Jvm.ClassFile.FieldType.int)) ∈ lw_tbl := lw_at lw_m13 149 rfl
theorem qt3275 : (Jvm.Cond.methodLink "RegionHouseModel" (773 : Nat) ({ cls := "RegionHouseModel", name := "regionsOf", desc := "(I)V" } : Jvm.MethodName)) ∈ lw_tbl := lw_at lw_m13 150 rfl
theorem qt3277 : (Jvm.Cond.instanceMethod ({ cls := "RegionHouseModel", name := "regionsOf", desc := "(I)V" } : Jvm.MethodName)) ∈ lw_tbl := lw_at lw_m13 152 rfl
theorem qt3278 : (Jvm.Cond.code ({ cls := "RegionHouseModel", name := "regionsOf", desc := "(I)V" } : Jvm.MethodName) prog_16_method_85_code (4 : Nat) (Option.none : Option Jvm.ClassFile.FieldType)) ∈ lw_tbl := lw_at lw_m13 153 rfl
theorem qt3279 : (Jvm.Cond.methodLink "RegionHouseModel" (721 : Nat) ({ cls := "RegionHouseModel", name := "numberAll", desc := "(I)V" } : Jvm.MethodName)) ∈ lw_tbl := lw_at lw_m13 154 rfl
theorem qt3281 : (Jvm.Cond.instanceMethod ({ cls := "RegionHouseModel", name := "numberAll", desc := "(I)V" } : Jvm.MethodName)) ∈ lw_tbl := lw_at lw_m13 156 rfl
theorem qt3282 : (Jvm.Cond.code ({ cls := "RegionHouseModel", name := "numberAll", desc := "(I)V" } : Jvm.MethodName) prog_16_method_71_code (5 : Nat) (Option.none : Option Jvm.ClassFile.FieldType)) ∈ lw_tbl := lw_at lw_m13 157 rfl
theorem qt3283 : (Jvm.Cond.methodLink "RegionHouseModel" (674 : Nat) ({ cls := "RegionHouseModel", name := "isPut", desc := "(I)Z" } : Jvm.MethodName)) ∈ lw_tbl := lw_at lw_m13 158 rfl
theorem qt3285 : (Jvm.Cond.instanceMethod ({ cls := "RegionHouseModel", name := "isPut", desc := "(I)Z" } : Jvm.MethodName)) ∈ lw_tbl := lw_at lw_m13 160 rfl
theorem qt3286 : (Jvm.Cond.code ({ cls := "RegionHouseModel", name := "isPut", desc := "(I)Z" } : Jvm.MethodName) prog_16_method_70_code (2 : Nat) (Option.some Jvm.ClassFile.FieldType.boolean)) ∈ lw_tbl := lw_at lw_m13 161 rfl
theorem qt3287 : (Jvm.Cond.methodLink "RegionHouseModel" (677 : Nat) ({ cls := "RegionHouseModel", name := "number", desc := "(I)V" } : Jvm.MethodName)) ∈ lw_tbl := lw_at lw_m13 162 rfl
theorem qt3289 : (Jvm.Cond.instanceMethod ({ cls := "RegionHouseModel", name := "number", desc := "(I)V" } : Jvm.MethodName)) ∈ lw_tbl := lw_at lw_m13 164 rfl
theorem qt3290 : (Jvm.Cond.code ({ cls := "RegionHouseModel", name := "number", desc := "(I)V" } : Jvm.MethodName) prog_16_method_69_code (3 : Nat) (Option.none : Option Jvm.ClassFile.FieldType)) ∈ lw_tbl := lw_at lw_m13 165 rfl
theorem qt3291 : (Jvm.Cond.methodLink "RegionHouseModel" (724 : Nat) ({ cls := "RegionHouseModel", name := "gatherBits", desc := "(I)V" } : Jvm.MethodName)) ∈ lw_tbl := lw_at lw_m13 166 rfl
theorem qt3293 : (Jvm.Cond.instanceMethod ({ cls := "RegionHouseModel", name := "gatherBits", desc := "(I)V" } : Jvm.MethodName)) ∈ lw_tbl := lw_at lw_m13 168 rfl
theorem qt3294 : (Jvm.Cond.code ({ cls := "RegionHouseModel", name := "gatherBits", desc := "(I)V" } : Jvm.MethodName) prog_16_method_74_code (7 : Nat) (Option.none : Option Jvm.ClassFile.FieldType)) ∈ lw_tbl := lw_at lw_m13 169 rfl
theorem qt3295 : (Jvm.Cond.methodLink "RegionHouseModel" (686 : Nat) ({ cls := "RegionHouseModel", name := "reach", desc := "(I[JI)I" } : Jvm.MethodName)) ∈ lw_tbl := lw_at lw_m13 170 rfl
theorem qt3297 : (Jvm.Cond.instanceMethod ({ cls := "RegionHouseModel", name := "reach", desc := "(I[JI)I" } : Jvm.MethodName)) ∈ lw_tbl := lw_at lw_m13 172 rfl
theorem qt3298 : (Jvm.Cond.code ({ cls := "RegionHouseModel", name := "reach", desc := "(I[JI)I" } : Jvm.MethodName) prog_16_method_72_code (8 : Nat) (Option.some Jvm.ClassFile.FieldType.int)) ∈ lw_tbl := lw_at lw_m13 173 rfl
theorem qt3299 : (Jvm.Cond.methodLink "RegionHouseModel" (683 : Nat) ({ cls := "RegionHouseModel", name := "spread", desc := "(II)I" } : Jvm.MethodName)) ∈ lw_tbl := lw_at lw_m13 174 rfl
theorem qt3301 : (Jvm.Cond.instanceMethod ({ cls := "RegionHouseModel", name := "spread", desc := "(II)I" } : Jvm.MethodName)) ∈ lw_tbl := lw_at lw_m13 176 rfl
theorem qt3302 : (Jvm.Cond.code ({ cls := "RegionHouseModel", name := "spread", desc := "(II)I" } : Jvm.MethodName) prog_16_method_55_code (5 : Nat) (Option.some Jvm.ClassFile.FieldType.int)) ∈ lw_tbl := lw_at lw_m13 177 rfl
theorem qt3303 : (Jvm.Cond.methodLink "RegionHouseModel" (727 : Nat) ({ cls := "RegionHouseModel", name := "findOwn", desc := "(I)V" } : Jvm.MethodName)) ∈ lw_tbl := lw_at lw_m13 178 rfl
theorem qt3305 : (Jvm.Cond.instanceMethod ({ cls := "RegionHouseModel", name := "findOwn", desc := "(I)V" } : Jvm.MethodName)) ∈ lw_tbl := lw_at lw_m13 180 rfl
theorem qt3306 : (Jvm.Cond.code ({ cls := "RegionHouseModel", name := "findOwn", desc := "(I)V" } : Jvm.MethodName) prog_16_method_76_code (5 : Nat) (Option.none : Option Jvm.ClassFile.FieldType)) ∈ lw_tbl := lw_at lw_m13 181 rfl
theorem qt3307 : (Jvm.Cond.methodLink "RegionHouseModel" (693 : Nat) ({ cls := "RegionHouseModel", name := "own", desc := "(III)V" } : Jvm.MethodName)) ∈ lw_tbl := lw_at lw_m13 182 rfl
theorem qt3309 : (Jvm.Cond.instanceMethod ({ cls := "RegionHouseModel", name := "own", desc := "(III)V" } : Jvm.MethodName)) ∈ lw_tbl := lw_at lw_m13 184 rfl
theorem qt3310 : (Jvm.Cond.code ({ cls := "RegionHouseModel", name := "own", desc := "(III)V" } : Jvm.MethodName) prog_16_method_77_code (4 : Nat) (Option.none : Option Jvm.ClassFile.FieldType)) ∈ lw_tbl := lw_at lw_m13 185 rfl
theorem qt3311 : (Jvm.Cond.methodLink "RegionHouseModel" (696 : Nat) ({ cls := "RegionHouseModel", name := "tight", desc := "(III)I" } : Jvm.MethodName)) ∈ lw_tbl := lw_at lw_m13 186 rfl
theorem qt3313 : (Jvm.Cond.instanceMethod ({ cls := "RegionHouseModel", name := "tight", desc := "(III)I" } : Jvm.MethodName)) ∈ lw_tbl := lw_at lw_m13 188 rfl
theorem qt3314 : (Jvm.Cond.code ({ cls := "RegionHouseModel", name := "tight", desc := "(III)I" } : Jvm.MethodName) prog_16_method_75_code (6 : Nat) (Option.some Jvm.ClassFile.FieldType.int)) ∈ lw_tbl := lw_at lw_m13 189 rfl
theorem qt3315 : (Jvm.Cond.methodLink "RegionHouseModel" (730 : Nat) ({ cls := "RegionHouseModel", name := "holdOf", desc := "(II)Z" } : Jvm.MethodName)) ∈ lw_tbl := lw_at lw_m13 190 rfl
theorem qt3317 : (Jvm.Cond.instanceMethod ({ cls := "RegionHouseModel", name := "holdOf", desc := "(II)Z" } : Jvm.MethodName)) ∈ lw_tbl := lw_at lw_m13 192 rfl
theorem qt3318 : (Jvm.Cond.code ({ cls := "RegionHouseModel", name := "holdOf", desc := "(II)Z" } : Jvm.MethodName) prog_16_method_80_code (6 : Nat) (Option.some Jvm.ClassFile.FieldType.boolean)) ∈ lw_tbl := lw_at lw_m13 193 rfl
theorem qt3319 : (Jvm.Cond.methodLink "RegionHouseModel" (699 : Nat) ({ cls := "RegionHouseModel", name := "isAround", desc := "(II)Z" } : Jvm.MethodName)) ∈ lw_tbl := lw_at lw_m13 194 rfl
theorem qt3321 : (Jvm.Cond.instanceMethod ({ cls := "RegionHouseModel", name := "isAround", desc := "(II)Z" } : Jvm.MethodName)) ∈ lw_tbl := lw_at lw_m13 196 rfl
theorem qt3322 : (Jvm.Cond.code ({ cls := "RegionHouseModel", name := "isAround", desc := "(II)Z" } : Jvm.MethodName) prog_16_method_79_code (4 : Nat) (Option.some Jvm.ClassFile.FieldType.boolean)) ∈ lw_tbl := lw_at lw_m13 197 rfl
theorem qt3323 : (Jvm.Cond.methodLink "RegionHouseModel" (702 : Nat) ({ cls := "RegionHouseModel", name := "addHeld", desc := "(II)Z" } : Jvm.MethodName)) ∈ lw_tbl := lw_at lw_m13 198 rfl
theorem qt3325 : (Jvm.Cond.instanceMethod ({ cls := "RegionHouseModel", name := "addHeld", desc := "(II)Z" } : Jvm.MethodName)) ∈ lw_tbl := lw_at lw_m13 200 rfl
theorem qt3326 : (Jvm.Cond.code ({ cls := "RegionHouseModel", name := "addHeld", desc := "(II)Z" } : Jvm.MethodName) prog_16_method_56_code (5 : Nat) (Option.some Jvm.ClassFile.FieldType.boolean)) ∈ lw_tbl := lw_at lw_m13 201 rfl
theorem qt3327 : (Jvm.Cond.methodLink "RegionHouseModel" (705 : Nat) ({ cls := "RegionHouseModel", name := "isKept", desc := "(II)Z" } : Jvm.MethodName)) ∈ lw_tbl := lw_at lw_m13 202 rfl
theorem qt3329 : (Jvm.Cond.instanceMethod ({ cls := "RegionHouseModel", name := "isKept", desc := "(II)Z" } : Jvm.MethodName)) ∈ lw_tbl := lw_at lw_m13 204 rfl
theorem qt3330 : (Jvm.Cond.code ({ cls := "RegionHouseModel", name := "isKept", desc := "(II)Z" } : Jvm.MethodName) prog_16_method_78_code (4 : Nat) (Option.some Jvm.ClassFile.FieldType.boolean)) ∈ lw_tbl := lw_at lw_m13 205 rfl
theorem qt3331 : (Jvm.Cond.methodLink "RegionHouseModel" (708 : Nat) ({ cls := "RegionHouseModel", name := "holdOfCall", desc := "(IIII)Z" } : Jvm.MethodName)) ∈ lw_tbl := lw_at lw_m13 206 rfl
theorem qt3333 : (Jvm.Cond.instanceMethod ({ cls := "RegionHouseModel", name := "holdOfCall", desc := "(IIII)Z" } : Jvm.MethodName)) ∈ lw_tbl := lw_at lw_m13 208 rfl
theorem qt3334 : (Jvm.Cond.code ({ cls := "RegionHouseModel", name := "holdOfCall", desc := "(IIII)Z" } : Jvm.MethodName) prog_16_method_81_code (9 : Nat) (Option.some Jvm.ClassFile.FieldType.boolean)) ∈ lw_tbl := lw_at lw_m13 209 rfl
theorem qt3335 : (Jvm.Cond.methodLink "RegionHouseModel" (733 : Nat) ({ cls := "RegionHouseModel", name := "least24", desc := "(I)I" } : Jvm.MethodName)) ∈ lw_tbl := lw_at lw_m13 210 rfl
theorem qt3337 : (Jvm.Cond.instanceMethod ({ cls := "RegionHouseModel", name := "least24", desc := "(I)I" } : Jvm.MethodName)) ∈ lw_tbl := lw_at lw_m13 212 rfl
theorem qt3338 : (Jvm.Cond.code ({ cls := "RegionHouseModel", name := "least24", desc := "(I)I" } : Jvm.MethodName) prog_16_method_82_code (5 : Nat) (Option.some Jvm.ClassFile.FieldType.int)) ∈ lw_tbl := lw_at lw_m13 213 rfl
theorem qt3339 : (Jvm.Cond.methodLink "RegionHouseModel" (736 : Nat) ({ cls := "RegionHouseModel", name := "signs", desc := "(I)V" } : Jvm.MethodName)) ∈ lw_tbl := lw_at lw_m13 214 rfl
theorem qt3341 : (Jvm.Cond.instanceMethod ({ cls := "RegionHouseModel", name := "signs", desc := "(I)V" } : Jvm.MethodName)) ∈ lw_tbl := lw_at lw_m13 216 rfl
theorem qt3342 : (Jvm.Cond.code ({ cls := "RegionHouseModel", name := "signs", desc := "(I)V" } : Jvm.MethodName) prog_16_method_83_code (4 : Nat) (Option.none : Option Jvm.ClassFile.FieldType)) ∈ lw_tbl := lw_at lw_m13 217 rfl
theorem qt3343 : (Jvm.Cond.methodLink "RegionHouseModel" (718 : Nat) ({ cls := "RegionHouseModel", name := "heldBy", desc := "(I)I" } : Jvm.MethodName)) ∈ lw_tbl := lw_at lw_m13 218 rfl
theorem qt3345 : (Jvm.Cond.instanceMethod ({ cls := "RegionHouseModel", name := "heldBy", desc := "(I)I" } : Jvm.MethodName)) ∈ lw_tbl := lw_at lw_m13 220 rfl
theorem qt3346 : (Jvm.Cond.code ({ cls := "RegionHouseModel", name := "heldBy", desc := "(I)I" } : Jvm.MethodName) prog_16_method_84_code (5 : Nat) (Option.some Jvm.ClassFile.FieldType.int)) ∈ lw_tbl := lw_at lw_m13 221 rfl
theorem qt3347 : (Jvm.Cond.methodLink "RegionHouseModel" (739 : Nat) ({ cls := "RegionHouseModel", name := "keepRegions", desc := "(I)V" } : Jvm.MethodName)) ∈ lw_tbl := lw_at lw_m13 222 rfl
theorem qt3349 : (Jvm.Cond.instanceMethod ({ cls := "RegionHouseModel", name := "keepRegions", desc := "(I)V" } : Jvm.MethodName)) ∈ lw_tbl := lw_at lw_m13 224 rfl
theorem qt3350 : (Jvm.Cond.code ({ cls := "RegionHouseModel", name := "keepRegions", desc := "(I)V" } : Jvm.MethodName) prog_16_method_86_code (3 : Nat) (Option.none : Option Jvm.ClassFile.FieldType)) ∈ lw_tbl := lw_at lw_m13 225 rfl
theorem qt3351 : (Jvm.Cond.methodLink "RegionHouseModel" (742 : Nat) ({ cls := "RegionHouseModel", name := "keepOf", desc := "(II)V" } : Jvm.MethodName)) ∈ lw_tbl := lw_at lw_m13 226 rfl
theorem qt3353 : (Jvm.Cond.instanceMethod ({ cls := "RegionHouseModel", name := "keepOf", desc := "(II)V" } : Jvm.MethodName)) ∈ lw_tbl := lw_at lw_m13 228 rfl
theorem qt3354 : (Jvm.Cond.code ({ cls := "RegionHouseModel", name := "keepOf", desc := "(II)V" } : Jvm.MethodName) prog_16_method_87_code (9 : Nat) (Option.none : Option Jvm.ClassFile.FieldType)) ∈ lw_tbl := lw_at lw_m13 229 rfl
theorem qt3355 : (Jvm.Cond.methodLink "RegionHouseModel" (748 : Nat) ({ cls := "RegionHouseModel", name := "putMany", desc := "(II)I" } : Jvm.MethodName)) ∈ lw_tbl := lw_at lw_m13 230 rfl
theorem qt3357 : (Jvm.Cond.instanceMethod ({ cls := "RegionHouseModel", name := "putMany", desc := "(II)I" } : Jvm.MethodName)) ∈ lw_tbl := lw_at lw_m13 232 rfl
theorem qt3358 : (Jvm.Cond.code ({ cls := "RegionHouseModel", name := "putMany", desc := "(II)I" } : Jvm.MethodName) prog_16_method_88_code (3 : Nat) (Option.some Jvm.ClassFile.FieldType.int)) ∈ lw_tbl := lw_at lw_m13 233 rfl
theorem qt3359 : (Jvm.Cond.methodLink "RegionHouseModel" (751 : Nat) ({ cls := "RegionHouseModel", name := "putNumber", desc := "(III)I" } : Jvm.MethodName)) ∈ lw_tbl := lw_at lw_m13 234 rfl
theorem qt3361 : (Jvm.Cond.instanceMethod ({ cls := "RegionHouseModel", name := "putNumber", desc := "(III)I" } : Jvm.MethodName)) ∈ lw_tbl := lw_at lw_m13 236 rfl
theorem qt3362 : (Jvm.Cond.code ({ cls := "RegionHouseModel", name := "putNumber", desc := "(III)I" } : Jvm.MethodName) prog_16_method_89_code (5 : Nat) (Option.some Jvm.ClassFile.FieldType.int)) ∈ lw_tbl := lw_at lw_m13 237 rfl
theorem qt3363 : (Jvm.Cond.methodLink "RegionHouseModel" (776 : Nat) ({ cls := "RegionHouseModel", name := "goes", desc := "(ZZ)Z" } : Jvm.MethodName)) ∈ lw_tbl := lw_at lw_m13 238 rfl
theorem qt3365 : (Jvm.Cond.instanceMethod ({ cls := "RegionHouseModel", name := "goes", desc := "(ZZ)Z" } : Jvm.MethodName)) ∈ lw_tbl := lw_at lw_m14 0 rfl
theorem qt3366 : (Jvm.Cond.code ({ cls := "RegionHouseModel", name := "goes", desc := "(ZZ)Z" } : Jvm.MethodName) prog_16_method_3_code (3 : Nat) (Option.some Jvm.ClassFile.FieldType.boolean)) ∈ lw_tbl := lw_at lw_m14 1 rfl
theorem qt3367 : (Jvm.Cond.methodLink "RegionHouseLaw" (66 : Nat) ({ cls := "RegionHouseModel", name := "fault", desc := "(I)I" } : Jvm.MethodName)) ∈ lw_tbl := lw_at lw_m14 2 rfl
theorem qt3368 : (Jvm.Cond.instanceMethod ({ cls := "RegionHouseModel", name := "fault", desc := "(I)I" } : Jvm.MethodName)) ∈ lw_tbl := lw_at lw_m14 3 rfl
theorem qt3369 : (Jvm.Cond.selects "RegionHouseModel" ({ cls := "RegionHouseModel", name := "fault", desc := "(I)I" } : Jvm.MethodName) ({ cls := "RegionHouseModel", name := "fault", desc := "(I)I" } : Jvm.MethodName)) ∈ lw_tbl := lw_at lw_m14 4 rfl
theorem qt3370 : (Jvm.Cond.code ({ cls := "RegionHouseModel", name := "fault", desc := "(I)I" } : Jvm.MethodName) prog_16_method_91_code (2 : Nat) (Option.some Jvm.ClassFile.FieldType.int)) ∈ lw_tbl := lw_at lw_m14 5 rfl
theorem qt3371 : (Jvm.Cond.methodLink "RegionHouseLaw" (69 : Nat) ({ cls := "RegionHouseModel", name := "annotate", desc := "()I" } : Jvm.MethodName)) ∈ lw_tbl := lw_at lw_m14 6 rfl
theorem qt3372 : (Jvm.Cond.instanceMethod ({ cls := "RegionHouseModel", name := "annotate", desc := "()I" } : Jvm.MethodName)) ∈ lw_tbl := lw_at lw_m14 7 rfl
theorem qt3373 : (Jvm.Cond.selects "RegionHouseModel" ({ cls := "RegionHouseModel", name := "annotate", desc := "()I" } : Jvm.MethodName) ({ cls := "RegionHouseModel", name := "annotate", desc := "()I" } : Jvm.MethodName)) ∈ lw_tbl := lw_at lw_m14 8 rfl
theorem qt3374 : (Jvm.Cond.code ({ cls := "RegionHouseModel", name := "annotate", desc := "()I" } : Jvm.MethodName) prog_16_method_100_code (3 : Nat) (Option.some Jvm.ClassFile.FieldType.int)) ∈ lw_tbl := lw_at lw_m14 9 rfl
theorem qt3375 : (Jvm.Cond.methodLink "RegionHouseModel" (804 : Nat) ({ cls := "RegionHouseModel", name := "putLexeme", desc := "(II)V" } : Jvm.MethodName)) ∈ lw_tbl := lw_at lw_m14 10 rfl
theorem qt3377 : (Jvm.Cond.instanceMethod ({ cls := "RegionHouseModel", name := "putLexeme", desc := "(II)V" } : Jvm.MethodName)) ∈ lw_tbl := lw_at lw_m14 12 rfl
theorem qt3378 : (Jvm.Cond.code ({ cls := "RegionHouseModel", name := "putLexeme", desc := "(II)V" } : Jvm.MethodName) prog_16_method_101_code (4 : Nat) (Option.none : Option Jvm.ClassFile.FieldType)) ∈ lw_tbl := lw_at lw_m14 13 rfl
theorem qt3380 : (Jvm.Cond.methodLink "RegionHouseModel" (809 : Nat) ({ cls := "RegionHouseModel", name := "putOwn", desc := "(IILjava/lang/String;)V" } : Jvm.MethodName)) ∈ lw_tbl := lw_at lw_m14 15 rfl
theorem qt3382 : (Jvm.Cond.instanceMethod ({ cls := "RegionHouseModel", name := "putOwn", desc := "(IILjava/lang/String;)V" } : Jvm.MethodName)) ∈ lw_tbl := lw_at lw_m14 17 rfl
theorem qt3383 : (Jvm.Cond.code ({ cls := "RegionHouseModel", name := "putOwn", desc := "(IILjava/lang/String;)V" } : Jvm.MethodName) prog_16_method_96_code (6 : Nat) (Option.none : Option Jvm.ClassFile.FieldType)) ∈ lw_tbl := lw_at lw_m14 18 rfl
theorem qt3384 : (Jvm.Cond.methodLink "RegionHouseModel" (791 : Nat) ({ cls := "RegionHouseModel", name := "blank", desc := "()V" } : Jvm.MethodName)) ∈ lw_tbl := lw_at lw_m14 19 rfl
theorem qt3386 : (Jvm.Cond.instanceMethod ({ cls := "RegionHouseModel", name := "blank", desc := "()V" } : Jvm.MethodName)) ∈ lw_tbl := lw_at lw_m14 21 rfl
theorem qt3387 : (Jvm.Cond.code ({ cls := "RegionHouseModel", name := "blank", desc := "()V" } : Jvm.MethodName) prog_16_method_95_code (1 : Nat) (Option.none : Option Jvm.ClassFile.FieldType)) ∈ lw_tbl := lw_at lw_m14 22 rfl
theorem qt3388 : (Jvm.Cond.methodLink "RegionHouseModel" (783 : Nat) ({ cls := "RegionHouseModel", name := "put", desc := "(I)V" } : Jvm.MethodName)) ∈ lw_tbl := lw_at lw_m14 23 rfl
theorem qt3390 : (Jvm.Cond.instanceMethod ({ cls := "RegionHouseModel", name := "put", desc := "(I)V" } : Jvm.MethodName)) ∈ lw_tbl := lw_at lw_m14 25 rfl
theorem qt3391 : (Jvm.Cond.code ({ cls := "RegionHouseModel", name := "put", desc := "(I)V" } : Jvm.MethodName) prog_16_method_92_code (2 : Nat) (Option.none : Option Jvm.ClassFile.FieldType)) ∈ lw_tbl := lw_at lw_m14 26 rfl
theorem qt3392 : (Jvm.Cond.methodLink "RegionHouseModel" (794 : Nat) ({ cls := "RegionHouseModel", name := "putWord", desc := "(Ljava/lang/String;)V" } : Jvm.MethodName)) ∈ lw_tbl := lw_at lw_m14 27 rfl
theorem qt3394 : (Jvm.Cond.instanceMethod ({ cls := "RegionHouseModel", name := "putWord", desc := "(Ljava/lang/String;)V" } : Jvm.MethodName)) ∈ lw_tbl := lw_at lw_m14 29 rfl
theorem qt3395 : (Jvm.Cond.code ({ cls := "RegionHouseModel", name := "putWord", desc := "(Ljava/lang/String;)V" } : Jvm.MethodName) prog_16_method_94_code (3 : Nat) (Option.none : Option Jvm.ClassFile.FieldType)) ∈ lw_tbl := lw_at lw_m14 30 rfl
theorem qt3396 : (Jvm.Cond.methodLink "RegionHouseModel" (798 : Nat) ({ cls := "RegionHouseModel", name := "putNumber", desc := "(J)V" } : Jvm.MethodName)) ∈ lw_tbl := lw_at lw_m14 31 rfl
theorem qt3398 : (Jvm.Cond.instanceMethod ({ cls := "RegionHouseModel", name := "putNumber", desc := "(J)V" } : Jvm.MethodName)) ∈ lw_tbl := lw_at lw_m14 33 rfl
theorem qt3399 : (Jvm.Cond.code ({ cls := "RegionHouseModel", name := "putNumber", desc := "(J)V" } : Jvm.MethodName) prog_16_method_93_code (7 : Nat) (Option.none : Option Jvm.ClassFile.FieldType)) ∈ lw_tbl := lw_at lw_m14 34 rfl
theorem qt3400 : (Jvm.Cond.constantLong "RegionHouseModel" (786 : Nat) (10 : Int64)) ∈ lw_tbl := lw_at lw_m14 35 rfl
theorem qt3401 : (Jvm.Cond.methodLink "RegionHouseModel" (813 : Nat) ({ cls := "RegionHouseModel", name := "putGets", desc := "(I)V" } : Jvm.MethodName)) ∈ lw_tbl := lw_at lw_m14 36 rfl
theorem qt3403 : (Jvm.Cond.instanceMethod ({ cls := "RegionHouseModel", name := "putGets", desc := "(I)V" } : Jvm.MethodName)) ∈ lw_tbl := lw_at lw_m14 38 rfl
theorem qt3404 : (Jvm.Cond.code ({ cls := "RegionHouseModel", name := "putGets", desc := "(I)V" } : Jvm.MethodName) prog_16_method_98_code (3 : Nat) (Option.none : Option Jvm.ClassFile.FieldType)) ∈ lw_tbl := lw_at lw_m14 39 rfl
theorem qt3405 : (Jvm.Cond.methodLink "RegionHouseModel" (816 : Nat) ({ cls := "RegionHouseModel", name := "putOf", desc := "(II)V" } : Jvm.MethodName)) ∈ lw_tbl := lw_at lw_m14 40 rfl
theorem qt3407 : (Jvm.Cond.instanceMethod ({ cls := "RegionHouseModel", name := "putOf", desc := "(II)V" } : Jvm.MethodName)) ∈ lw_tbl := lw_at lw_m14 42 rfl
theorem qt3408 : (Jvm.Cond.code ({ cls := "RegionHouseModel", name := "putOf", desc := "(II)V" } : Jvm.MethodName) prog_16_method_99_code (4 : Nat) (Option.none : Option Jvm.ClassFile.FieldType)) ∈ lw_tbl := lw_at lw_m14 43 rfl
theorem qt3409 : (Jvm.Cond.methodLink "RegionHouseModel" (801 : Nat) ({ cls := "RegionHouseModel", name := "numberOfPart", desc := "(I)I" } : Jvm.MethodName)) ∈ lw_tbl := lw_at lw_m14 44 rfl
theorem qt3411 : (Jvm.Cond.instanceMethod ({ cls := "RegionHouseModel", name := "numberOfPart", desc := "(I)I" } : Jvm.MethodName)) ∈ lw_tbl := lw_at lw_m14 46 rfl
theorem qt3412 : (Jvm.Cond.code ({ cls := "RegionHouseModel", name := "numberOfPart", desc := "(I)I" } : Jvm.MethodName) prog_16_method_97_code (2 : Nat) (Option.some Jvm.ClassFile.FieldType.int)) ∈ lw_tbl := lw_at lw_m14 47 rfl
theorem qt3414 : (Jvm.Cond.methodLink "RegionHouseLaw" (73 : Nat) ({ cls := "RegionHouseModel", name := "signature", desc := "(I)I" } : Jvm.MethodName)) ∈ lw_tbl := lw_at lw_m14 49 rfl
theorem qt3415 : (Jvm.Cond.instanceMethod ({ cls := "RegionHouseModel", name := "signature", desc := "(I)I" } : Jvm.MethodName)) ∈ lw_tbl := lw_at lw_m14 50 rfl
theorem qt3416 : (Jvm.Cond.selects "RegionHouseModel" ({ cls := "RegionHouseModel", name := "signature", desc := "(I)I" } : Jvm.MethodName) ({ cls := "RegionHouseModel", name := "signature", desc := "(I)I" } : Jvm.MethodName)) ∈ lw_tbl := lw_at lw_m14 51 rfl
theorem qt3417 : (Jvm.Cond.code ({ cls := "RegionHouseModel", name := "signature", desc := "(I)I" } : Jvm.MethodName) prog_16_method_107_code (3 : Nat) (Option.some Jvm.ClassFile.FieldType.int)) ∈ lw_tbl := lw_at lw_m14 52 rfl
theorem qt3418 : (Jvm.Cond.methodLink "RegionHouseModel" (842 : Nat) ({ cls := "RegionHouseModel", name := "isFunction", desc := "(I)Z" } : Jvm.MethodName)) ∈ lw_tbl := lw_at lw_m14 53 rfl
theorem qt3420 : (Jvm.Cond.instanceMethod ({ cls := "RegionHouseModel", name := "isFunction", desc := "(I)Z" } : Jvm.MethodName)) ∈ lw_tbl := lw_at lw_m14 55 rfl
theorem qt3421 : (Jvm.Cond.code ({ cls := "RegionHouseModel", name := "isFunction", desc := "(I)Z" } : Jvm.MethodName) prog_16_method_102_code (2 : Nat) (Option.some Jvm.ClassFile.FieldType.boolean)) ∈ lw_tbl := lw_at lw_m14 56 rfl
theorem qt3423 : (Jvm.Cond.methodLink "RegionHouseModel" (847 : Nat) ({ cls := "RegionHouseModel", name := "putType", desc := "(I)V" } : Jvm.MethodName)) ∈ lw_tbl := lw_at lw_m14 58 rfl
theorem qt3425 : (Jvm.Cond.instanceMethod ({ cls := "RegionHouseModel", name := "putType", desc := "(I)V" } : Jvm.MethodName)) ∈ lw_tbl := lw_at lw_m14 60 rfl
theorem qt3426 : (Jvm.Cond.code ({ cls := "RegionHouseModel", name := "putType", desc := "(I)V" } : Jvm.MethodName) prog_16_method_105_code (3 : Nat) (Option.none : Option Jvm.ClassFile.FieldType)) ∈ lw_tbl := lw_at lw_m14 61 rfl
theorem qt3427 : (Jvm.Cond.methodLink "RegionHouseModel" (827 : Nat) ({ cls := "RegionHouseModel", name := "task", desc := "(I)V" } : Jvm.MethodName)) ∈ lw_tbl := lw_at lw_m14 62 rfl
theorem qt3429 : (Jvm.Cond.instanceMethod ({ cls := "RegionHouseModel", name := "task", desc := "(I)V" } : Jvm.MethodName)) ∈ lw_tbl := lw_at lw_m14 64 rfl
theorem qt3430 : (Jvm.Cond.code ({ cls := "RegionHouseModel", name := "task", desc := "(I)V" } : Jvm.MethodName) prog_16_method_104_code (2 : Nat) (Option.none : Option Jvm.ClassFile.FieldType)) ∈ lw_tbl := lw_at lw_m14 65 rfl
theorem qt3433 : (Jvm.Cond.methodLink "RegionHouseModel" (834 : Nat) ({ cls := "RegionHouseModel", name := "putUnknown", desc := "(I)V" } : Jvm.MethodName)) ∈ lw_tbl := lw_at lw_m14 68 rfl
theorem qt3435 : (Jvm.Cond.instanceMethod ({ cls := "RegionHouseModel", name := "putUnknown", desc := "(I)V" } : Jvm.MethodName)) ∈ lw_tbl := lw_at lw_m14 70 rfl
theorem qt3436 : (Jvm.Cond.code ({ cls := "RegionHouseModel", name := "putUnknown", desc := "(I)V" } : Jvm.MethodName) prog_16_method_103_code (2 : Nat) (Option.none : Option Jvm.ClassFile.FieldType)) ∈ lw_tbl := lw_at lw_m14 71 rfl
theorem qt3438 : (Jvm.Cond.methodLink "RegionHouseModel" (839 : Nat) ({ cls := "RegionHouseModel", name := "putMade", desc := "(I)V" } : Jvm.MethodName)) ∈ lw_tbl := lw_at lw_m14 73 rfl
theorem qt3440 : (Jvm.Cond.instanceMethod ({ cls := "RegionHouseModel", name := "putMade", desc := "(I)V" } : Jvm.MethodName)) ∈ lw_tbl := lw_at lw_m14 75 rfl
theorem qt3441 : (Jvm.Cond.code ({ cls := "RegionHouseModel", name := "putMade", desc := "(I)V" } : Jvm.MethodName) prog_16_method_106_code (3 : Nat) (Option.none : Option Jvm.ClassFile.FieldType)) ∈ lw_tbl := lw_at lw_m14 76 rfl
theorem qt3443 : (Jvm.Cond.methodLink "RegionHouseLaw" (77 : Nat) ({ cls := "RegionHouseModel", name := "letter", desc := "(I)I" } : Jvm.MethodName)) ∈ lw_tbl := lw_at lw_m14 78 rfl
theorem qt3444 : (Jvm.Cond.instanceMethod ({ cls := "RegionHouseModel", name := "letter", desc := "(I)I" } : Jvm.MethodName)) ∈ lw_tbl := lw_at lw_m14 79 rfl
theorem qt3445 : (Jvm.Cond.selects "RegionHouseModel" ({ cls := "RegionHouseModel", name := "letter", desc := "(I)I" } : Jvm.MethodName) ({ cls := "RegionHouseModel", name := "letter", desc := "(I)I" } : Jvm.MethodName)) ∈ lw_tbl := lw_at lw_m14 80 rfl
theorem qt3446 : (Jvm.Cond.code ({ cls := "RegionHouseModel", name := "letter", desc := "(I)I" } : Jvm.MethodName) prog_16_method_108_code (2 : Nat) (Option.some Jvm.ClassFile.FieldType.int)) ∈ lw_tbl := lw_at lw_m14 81 rfl
theorem qt3447 : (Jvm.Cond.methodLink "RegionHouseLaw" (81 : Nat) ({ cls := "RegionHouseModel", name := "again", desc := "()I" } : Jvm.MethodName)) ∈ lw_tbl := lw_at lw_m14 82 rfl
theorem qt3448 : (Jvm.Cond.instanceMethod ({ cls := "RegionHouseModel", name := "again", desc := "()I" } : Jvm.MethodName)) ∈ lw_tbl := lw_at lw_m14 83 rfl
theorem qt3449 : (Jvm.Cond.selects "RegionHouseModel" ({ cls := "RegionHouseModel", name := "again", desc := "()I" } : Jvm.MethodName) ({ cls := "RegionHouseModel", name := "again", desc := "()I" } : Jvm.MethodName)) ∈ lw_tbl := lw_at lw_m14 84 rfl
theorem qt3450 : (Jvm.Cond.code ({ cls := "RegionHouseModel", name := "again", desc := "()I" } : Jvm.MethodName) prog_16_method_109_code (2 : Nat) (Option.some Jvm.ClassFile.FieldType.int)) ∈ lw_tbl := lw_at lw_m14 85 rfl
theorem qt3451 : (Jvm.Cond.methodLink "RegionHouseLaw" (85 : Nat) ({ cls := "RegionHouseModel", name := "function", desc := "(II)I" } : Jvm.MethodName)) ∈ lw_tbl := lw_at lw_m14 86 rfl
theorem qt3452 : (Jvm.Cond.instanceMethod ({ cls := "RegionHouseModel", name := "function", desc := "(II)I" } : Jvm.MethodName)) ∈ lw_tbl := lw_at lw_m14 87 rfl
theorem qt3453 : (Jvm.Cond.selects "RegionHouseModel" ({ cls := "RegionHouseModel", name := "function", desc := "(II)I" } : Jvm.MethodName) ({ cls := "RegionHouseModel", name := "function", desc := "(II)I" } : Jvm.MethodName)) ∈ lw_tbl := lw_at lw_m14 88 rfl
theorem qt3454 : (Jvm.Cond.code ({ cls := "RegionHouseModel", name := "function", desc := "(II)I" } : Jvm.MethodName) prog_16_method_110_code (5 : Nat) (Option.some Jvm.ClassFile.FieldType.int)) ∈ lw_tbl := lw_at lw_m14 89 rfl
theorem qt3455 : (Jvm.Cond.methodLink "RegionHouseLaw" (89 : Nat) ({ cls := "RegionHouseModel", name := "region", desc := "(III)I" } : Jvm.MethodName)) ∈ lw_tbl := lw_at lw_m14 90 rfl
theorem qt3456 : (Jvm.Cond.instanceMethod ({ cls := "RegionHouseModel", name := "region", desc := "(III)I" } : Jvm.MethodName)) ∈ lw_tbl := lw_at lw_m14 91 rfl
theorem qt3457 : (Jvm.Cond.selects "RegionHouseModel" ({ cls := "RegionHouseModel", name := "region", desc := "(III)I" } : Jvm.MethodName) ({ cls := "RegionHouseModel", name := "region", desc := "(III)I" } : Jvm.MethodName)) ∈ lw_tbl := lw_at lw_m14 92 rfl
theorem qt3458 : (Jvm.Cond.code ({ cls := "RegionHouseModel", name := "region", desc := "(III)I" } : Jvm.MethodName) prog_16_method_111_code (6 : Nat) (Option.some Jvm.ClassFile.FieldType.int)) ∈ lw_tbl := lw_at lw_m14 93 rfl
theorem qt3459 : (Jvm.Cond.methodLink "RegionHouseLaw" (94 : Nat) ({ cls := "RegionHouseModel", name := "pool", desc := "(II)Z" } : Jvm.MethodName)) ∈ lw_tbl := lw_at lw_m14 94 rfl
theorem qt3460 : (Jvm.Cond.instanceMethod ({ cls := "RegionHouseModel", name := "pool", desc := "(II)Z" } : Jvm.MethodName)) ∈ lw_tbl := lw_at lw_m14 95 rfl
theorem qt3461 : (Jvm.Cond.selects "RegionHouseModel" ({ cls := "RegionHouseModel", name := "pool", desc := "(II)Z" } : Jvm.MethodName) ({ cls := "RegionHouseModel", name := "pool", desc := "(II)Z" } : Jvm.MethodName)) ∈ lw_tbl := lw_at lw_m14 96 rfl
theorem qt3462 : (Jvm.Cond.code ({ cls := "RegionHouseModel", name := "pool", desc := "(II)Z" } : Jvm.MethodName) prog_16_method_112_code (3 : Nat) (Option.some Jvm.ClassFile.FieldType.boolean)) ∈ lw_tbl := lw_at lw_m14 97 rfl
theorem qt3463 : (Jvm.Cond.methodLink "RegionHouseLaw" (99 : Nat) ({ cls := "RegionHouseModel", name := "every", desc := "(I)Z" } : Jvm.MethodName)) ∈ lw_tbl := lw_at lw_m14 98 rfl
theorem qt3464 : (Jvm.Cond.instanceMethod ({ cls := "RegionHouseModel", name := "every", desc := "(I)Z" } : Jvm.MethodName)) ∈ lw_tbl := lw_at lw_m14 99 rfl
theorem qt3465 : (Jvm.Cond.selects "RegionHouseModel" ({ cls := "RegionHouseModel", name := "every", desc := "(I)Z" } : Jvm.MethodName) ({ cls := "RegionHouseModel", name := "every", desc := "(I)Z" } : Jvm.MethodName)) ∈ lw_tbl := lw_at lw_m14 100 rfl
theorem qt3466 : (Jvm.Cond.code ({ cls := "RegionHouseModel", name := "every", desc := "(I)Z" } : Jvm.MethodName) prog_16_method_113_code (2 : Nat) (Option.some Jvm.ClassFile.FieldType.boolean)) ∈ lw_tbl := lw_at lw_m14 101 rfl
theorem qt3467 : (Jvm.Cond.methodLink "RegionHouseLaw" (103 : Nat) ({ cls := "RegionHouseModel", name := "begin", desc := "()V" } : Jvm.MethodName)) ∈ lw_tbl := lw_at lw_m14 102 rfl
theorem qt3468 : (Jvm.Cond.instanceMethod ({ cls := "RegionHouseModel", name := "begin", desc := "()V" } : Jvm.MethodName)) ∈ lw_tbl := lw_at lw_m14 103 rfl
theorem qt3469 : (Jvm.Cond.selects "RegionHouseModel" ({ cls := "RegionHouseModel", name := "begin", desc := "()V" } : Jvm.MethodName) ({ cls := "RegionHouseModel", name := "begin", desc := "()V" } : Jvm.MethodName)) ∈ lw_tbl := lw_at lw_m14 104 rfl
theorem qt3470 : (Jvm.Cond.code ({ cls := "RegionHouseModel", name := "begin", desc := "()V" } : Jvm.MethodName) prog_16_method_127_code (4 : Nat) (Option.none : Option Jvm.ClassFile.FieldType)) ∈ lw_tbl := lw_at lw_m14 105 rfl
theorem qt3471 : (Jvm.Cond.methodLink "RegionHouseModel" (869 : Nat) ({ cls := "RegionHouseModel", name := "end", desc := "(I)V" } : Jvm.MethodName)) ∈ lw_tbl := lw_at lw_m14 106 rfl
theorem qt3473 : (Jvm.Cond.instanceMethod ({ cls := "RegionHouseModel", name := "end", desc := "(I)V" } : Jvm.MethodName)) ∈ lw_tbl := lw_at lw_m14 108 rfl
theorem qt3474 : (Jvm.Cond.code ({ cls := "RegionHouseModel", name := "end", desc := "(I)V" } : Jvm.MethodName) prog_16_method_114_code (2 : Nat) (Option.none : Option Jvm.ClassFile.FieldType)) ∈ lw_tbl := lw_at lw_m14 109 rfl
theorem qt3475 : (Jvm.Cond.methodLink "RegionHouseModel" (921 : Nat) ({ cls := "RegionHouseModel", name := "makeRegion", desc := "(II)Z" } : Jvm.MethodName)) ∈ lw_tbl := lw_at lw_m14 110 rfl
theorem qt3477 : (Jvm.Cond.instanceMethod ({ cls := "RegionHouseModel", name := "makeRegion", desc := "(II)Z" } : Jvm.MethodName)) ∈ lw_tbl := lw_at lw_m14 112 rfl
theorem qt3478 : (Jvm.Cond.code ({ cls := "RegionHouseModel", name := "makeRegion", desc := "(II)Z" } : Jvm.MethodName) prog_16_method_117_code (3 : Nat) (Option.some Jvm.ClassFile.FieldType.boolean)) ∈ lw_tbl := lw_at lw_m14 113 rfl
theorem qt3479 : (Jvm.Cond.methodLink "RegionHouseModel" (924 : Nat) ({ cls := "RegionHouseModel", name := "plan", desc := "(III)V" } : Jvm.MethodName)) ∈ lw_tbl := lw_at lw_m14 114 rfl
theorem qt3481 : (Jvm.Cond.instanceMethod ({ cls := "RegionHouseModel", name := "plan", desc := "(III)V" } : Jvm.MethodName)) ∈ lw_tbl := lw_at lw_m14 116 rfl
theorem qt3482 : (Jvm.Cond.code ({ cls := "RegionHouseModel", name := "plan", desc := "(III)V" } : Jvm.MethodName) prog_16_method_115_code (4 : Nat) (Option.none : Option Jvm.ClassFile.FieldType)) ∈ lw_tbl := lw_at lw_m14 117 rfl
theorem qt3483 : (Jvm.Cond.methodLink "RegionHouseLaw" (106 : Nat) ({ cls := "RegionHouseModel", name := "go", desc := "(I)I" } : Jvm.MethodName)) ∈ lw_tbl := lw_at lw_m14 118 rfl
theorem qt3484 : (Jvm.Cond.instanceMethod ({ cls := "RegionHouseModel", name := "go", desc := "(I)I" } : Jvm.MethodName)) ∈ lw_tbl := lw_at lw_m14 119 rfl
theorem qt3485 : (Jvm.Cond.selects "RegionHouseModel" ({ cls := "RegionHouseModel", name := "go", desc := "(I)I" } : Jvm.MethodName) ({ cls := "RegionHouseModel", name := "go", desc := "(I)I" } : Jvm.MethodName)) ∈ lw_tbl := lw_at lw_m14 120 rfl
theorem qt3486 : (Jvm.Cond.code ({ cls := "RegionHouseModel", name := "go", desc := "(I)I" } : Jvm.MethodName) prog_16_method_128_code (4 : Nat) (Option.some Jvm.ClassFile.FieldType.int)) ∈ lw_tbl := lw_at lw_m14 121 rfl
theorem qt3487 : (Jvm.Cond.methodLink "RegionHouseModel" (927 : Nat) ({ cls := "RegionHouseModel", name := "goOn", desc := "(III)V" } : Jvm.MethodName)) ∈ lw_tbl := lw_at lw_m14 122 rfl
theorem qt3489 : (Jvm.Cond.instanceMethod ({ cls := "RegionHouseModel", name := "goOn", desc := "(III)V" } : Jvm.MethodName)) ∈ lw_tbl := lw_at lw_m14 124 rfl
theorem qt3490 : (Jvm.Cond.code ({ cls := "RegionHouseModel", name := "goOn", desc := "(III)V" } : Jvm.MethodName) prog_16_method_135_code (4 : Nat) (Option.none : Option Jvm.ClassFile.FieldType)) ∈ lw_tbl := lw_at lw_m14 125 rfl
theorem qt3491 : (Jvm.Cond.methodLink "RegionHouseModel" (961 : Nat) ({ cls := "RegionHouseModel", name := "makeTwo", desc := "(II)V" } : Jvm.MethodName)) ∈ lw_tbl := lw_at lw_m14 126 rfl
theorem qt3493 : (Jvm.Cond.instanceMethod ({ cls := "RegionHouseModel", name := "makeTwo", desc := "(II)V" } : Jvm.MethodName)) ∈ lw_tbl := lw_at lw_m14 128 rfl
theorem qt3494 : (Jvm.Cond.code ({ cls := "RegionHouseModel", name := "makeTwo", desc := "(II)V" } : Jvm.MethodName) prog_16_method_133_code (4 : Nat) (Option.none : Option Jvm.ClassFile.FieldType)) ∈ lw_tbl := lw_at lw_m14 129 rfl
theorem qt3495 : (Jvm.Cond.methodLink "RegionHouseModel" (951 : Nat) ({ cls := "RegionHouseModel", name := "regionOf", desc := "(I)I" } : Jvm.MethodName)) ∈ lw_tbl := lw_at lw_m14 130 rfl
theorem qt3497 : (Jvm.Cond.instanceMethod ({ cls := "RegionHouseModel", name := "regionOf", desc := "(I)I" } : Jvm.MethodName)) ∈ lw_tbl := lw_at lw_m14 132 rfl
theorem qt3498 : (Jvm.Cond.code ({ cls := "RegionHouseModel", name := "regionOf", desc := "(I)I" } : Jvm.MethodName) prog_16_method_126_code (2 : Nat) (Option.some Jvm.ClassFile.FieldType.int)) ∈ lw_tbl := lw_at lw_m14 133 rfl
theorem qt3499 : (Jvm.Cond.methodLink "RegionHouseModel" (954 : Nat) ({ cls := "RegionHouseModel", name := "make", desc := "(IIII)I" } : Jvm.MethodName)) ∈ lw_tbl := lw_at lw_m14 134 rfl
theorem qt3501 : (Jvm.Cond.instanceMethod ({ cls := "RegionHouseModel", name := "make", desc := "(IIII)I" } : Jvm.MethodName)) ∈ lw_tbl := lw_at lw_m14 136 rfl
theorem qt3502 : (Jvm.Cond.code ({ cls := "RegionHouseModel", name := "make", desc := "(IIII)I" } : Jvm.MethodName) prog_16_method_124_code (5 : Nat) (Option.some Jvm.ClassFile.FieldType.int)) ∈ lw_tbl := lw_at lw_m14 137 rfl
theorem qt3503 : (Jvm.Cond.methodLink "RegionHouseModel" (909 : Nat) ({ cls := "RegionHouseModel", name := "collectOwn", desc := "()Z" } : Jvm.MethodName)) ∈ lw_tbl := lw_at lw_m14 138 rfl
theorem qt3505 : (Jvm.Cond.instanceMethod ({ cls := "RegionHouseModel", name := "collectOwn", desc := "()Z" } : Jvm.MethodName)) ∈ lw_tbl := lw_at lw_m14 140 rfl
theorem qt3506 : (Jvm.Cond.code ({ cls := "RegionHouseModel", name := "collectOwn", desc := "()Z" } : Jvm.MethodName) prog_16_method_121_code (1 : Nat) (Option.some Jvm.ClassFile.FieldType.boolean)) ∈ lw_tbl := lw_at lw_m14 141 rfl
theorem qt3507 : (Jvm.Cond.constant "RegionHouseModel" (899 : Nat) (50000 : Int32)) ∈ lw_tbl := lw_at lw_m14 142 rfl
theorem qt3508 : (Jvm.Cond.methodLink "RegionHouseModel" (900 : Nat) ({ cls := "RegionHouseModel", name := "collectNow", desc := "()Z" } : Jvm.MethodName)) ∈ lw_tbl := lw_at lw_m14 143 rfl
theorem qt3510 : (Jvm.Cond.instanceMethod ({ cls := "RegionHouseModel", name := "collectNow", desc := "()Z" } : Jvm.MethodName)) ∈ lw_tbl := lw_at lw_m14 145 rfl
theorem qt3511 : (Jvm.Cond.code ({ cls := "RegionHouseModel", name := "collectNow", desc := "()Z" } : Jvm.MethodName) prog_16_method_120_code (8 : Nat) (Option.some Jvm.ClassFile.FieldType.boolean)) ∈ lw_tbl := lw_at lw_m14 146 rfl
theorem qt3512 : (Jvm.Cond.methodLink "RegionHouseModel" (884 : Nat) ({ cls := "RegionHouseModel", name := "meetObject", desc := "(III)I" } : Jvm.MethodName)) ∈ lw_tbl := lw_at lw_m14 147 rfl
theorem qt3514 : (Jvm.Cond.instanceMethod ({ cls := "RegionHouseModel", name := "meetObject", desc := "(III)I" } : Jvm.MethodName)) ∈ lw_tbl := lw_at lw_m14 149 rfl
theorem qt3515 : (Jvm.Cond.code ({ cls := "RegionHouseModel", name := "meetObject", desc := "(III)I" } : Jvm.MethodName) prog_16_method_119_code (4 : Nat) (Option.some Jvm.ClassFile.FieldType.int)) ∈ lw_tbl := lw_at lw_m14 150 rfl
theorem qt3516 : (Jvm.Cond.methodLink "RegionHouseModel" (887 : Nat) ({ cls := "RegionHouseModel", name := "isStray", desc := "(I)Z" } : Jvm.MethodName)) ∈ lw_tbl := lw_at lw_m14 151 rfl
theorem qt3518 : (Jvm.Cond.instanceMethod ({ cls := "RegionHouseModel", name := "isStray", desc := "(I)Z" } : Jvm.MethodName)) ∈ lw_tbl := lw_at lw_m14 153 rfl
theorem qt3519 : (Jvm.Cond.code ({ cls := "RegionHouseModel", name := "isStray", desc := "(I)Z" } : Jvm.MethodName) prog_16_method_118_code (4 : Nat) (Option.some Jvm.ClassFile.FieldType.boolean)) ∈ lw_tbl := lw_at lw_m14 154 rfl
theorem qt3520 : (Jvm.Cond.methodLink "RegionHouseModel" (912 : Nat) ({ cls := "RegionHouseModel", name := "fits", desc := "(II)Z" } : Jvm.MethodName)) ∈ lw_tbl := lw_at lw_m14 155 rfl
theorem qt3522 : (Jvm.Cond.instanceMethod ({ cls := "RegionHouseModel", name := "fits", desc := "(II)Z" } : Jvm.MethodName)) ∈ lw_tbl := lw_at lw_m14 157 rfl
theorem qt3523 : (Jvm.Cond.code ({ cls := "RegionHouseModel", name := "fits", desc := "(II)Z" } : Jvm.MethodName) prog_16_method_122_code (3 : Nat) (Option.some Jvm.ClassFile.FieldType.boolean)) ∈ lw_tbl := lw_at lw_m14 158 rfl
theorem qt3524 : (Jvm.Cond.methodLink "RegionHouseModel" (915 : Nat) ({ cls := "RegionHouseModel", name := "tidy", desc := "()V" } : Jvm.MethodName)) ∈ lw_tbl := lw_at lw_m14 159 rfl
theorem qt3526 : (Jvm.Cond.instanceMethod ({ cls := "RegionHouseModel", name := "tidy", desc := "()V" } : Jvm.MethodName)) ∈ lw_tbl := lw_at lw_m14 161 rfl
theorem qt3527 : (Jvm.Cond.code ({ cls := "RegionHouseModel", name := "tidy", desc := "()V" } : Jvm.MethodName) prog_16_method_123_code (6 : Nat) (Option.none : Option Jvm.ClassFile.FieldType)) ∈ lw_tbl := lw_at lw_m14 162 rfl
theorem qt3528 : (Jvm.Cond.methodLink "RegionHouseModel" (958 : Nat) ({ cls := "RegionHouseModel", name := "fill", desc := "(II)V" } : Jvm.MethodName)) ∈ lw_tbl := lw_at lw_m14 163 rfl
theorem qt3530 : (Jvm.Cond.instanceMethod ({ cls := "RegionHouseModel", name := "fill", desc := "(II)V" } : Jvm.MethodName)) ∈ lw_tbl := lw_at lw_m14 165 rfl
theorem qt3531 : (Jvm.Cond.code ({ cls := "RegionHouseModel", name := "fill", desc := "(II)V" } : Jvm.MethodName) prog_16_method_125_code (3 : Nat) (Option.none : Option Jvm.ClassFile.FieldType)) ∈ lw_tbl := lw_at lw_m14 166 rfl
theorem qt3532 : (Jvm.Cond.methodLink "RegionHouseModel" (964 : Nat) ({ cls := "RegionHouseModel", name := "reckon", desc := "(I)V" } : Jvm.MethodName)) ∈ lw_tbl := lw_at lw_m14 167 rfl
theorem qt3534 : (Jvm.Cond.instanceMethod ({ cls := "RegionHouseModel", name := "reckon", desc := "(I)V" } : Jvm.MethodName)) ∈ lw_tbl := lw_at lw_m14 169 rfl
theorem qt3535 : (Jvm.Cond.code ({ cls := "RegionHouseModel", name := "reckon", desc := "(I)V" } : Jvm.MethodName) prog_16_method_134_code (5 : Nat) (Option.none : Option Jvm.ClassFile.FieldType)) ∈ lw_tbl := lw_at lw_m14 170 rfl
theorem qt3536 : (Jvm.Cond.methodLink "RegionHouseModel" (967 : Nat) ({ cls := "RegionHouseModel", name := "takeOf", desc := "(I)V" } : Jvm.MethodName)) ∈ lw_tbl := lw_at lw_m14 171 rfl
theorem qt3538 : (Jvm.Cond.instanceMethod ({ cls := "RegionHouseModel", name := "takeOf", desc := "(I)V" } : Jvm.MethodName)) ∈ lw_tbl := lw_at lw_m14 173 rfl
theorem qt3539 : (Jvm.Cond.code ({ cls := "RegionHouseModel", name := "takeOf", desc := "(I)V" } : Jvm.MethodName) prog_16_method_136_code (5 : Nat) (Option.none : Option Jvm.ClassFile.FieldType)) ∈ lw_tbl := lw_at lw_m14 174 rfl
theorem qt3540 : (Jvm.Cond.methodLink "RegionHouseModel" (970 : Nat) ({ cls := "RegionHouseModel", name := "caseOn", desc := "(I)V" } : Jvm.MethodName)) ∈ lw_tbl := lw_at lw_m14 175 rfl
theorem qt3542 : (Jvm.Cond.instanceMethod ({ cls := "RegionHouseModel", name := "caseOn", desc := "(I)V" } : Jvm.MethodName)) ∈ lw_tbl := lw_at lw_m14 177 rfl
theorem qt3543 : (Jvm.Cond.code ({ cls := "RegionHouseModel", name := "caseOn", desc := "(I)V" } : Jvm.MethodName) prog_16_method_137_code (5 : Nat) (Option.none : Option Jvm.ClassFile.FieldType)) ∈ lw_tbl := lw_at lw_m14 178 rfl
theorem qt3544 : (Jvm.Cond.methodLink "RegionHouseModel" (933 : Nat) ({ cls := "RegionHouseModel", name := "value", desc := "(II)Z" } : Jvm.MethodName)) ∈ lw_tbl := lw_at lw_m14 179 rfl
theorem qt3546 : (Jvm.Cond.instanceMethod ({ cls := "RegionHouseModel", name := "value", desc := "(II)Z" } : Jvm.MethodName)) ∈ lw_tbl := lw_at lw_m14 181 rfl
theorem qt3547 : (Jvm.Cond.code ({ cls := "RegionHouseModel", name := "value", desc := "(II)Z" } : Jvm.MethodName) prog_16_method_116_code (3 : Nat) (Option.some Jvm.ClassFile.FieldType.boolean)) ∈ lw_tbl := lw_at lw_m14 182 rfl
theorem qt3548 : (Jvm.Cond.methodLink "RegionHouseModel" (973 : Nat) ({ cls := "RegionHouseModel", name := "callOn", desc := "(I)V" } : Jvm.MethodName)) ∈ lw_tbl := lw_at lw_m14 183 rfl
theorem qt3550 : (Jvm.Cond.instanceMethod ({ cls := "RegionHouseModel", name := "callOn", desc := "(I)V" } : Jvm.MethodName)) ∈ lw_tbl := lw_at lw_m14 185 rfl
theorem qt3551 : (Jvm.Cond.code ({ cls := "RegionHouseModel", name := "callOn", desc := "(I)V" } : Jvm.MethodName) prog_16_method_139_code (6 : Nat) (Option.none : Option Jvm.ClassFile.FieldType)) ∈ lw_tbl := lw_at lw_m14 186 rfl
theorem qt3552 : (Jvm.Cond.methodLink "RegionHouseModel" (982 : Nat) ({ cls := "RegionHouseModel", name := "goesDown", desc := "(I)Z" } : Jvm.MethodName)) ∈ lw_tbl := lw_at lw_m14 187 rfl
theorem qt3554 : (Jvm.Cond.instanceMethod ({ cls := "RegionHouseModel", name := "goesDown", desc := "(I)Z" } : Jvm.MethodName)) ∈ lw_tbl := lw_at lw_m14 189 rfl
theorem qt3555 : (Jvm.Cond.code ({ cls := "RegionHouseModel", name := "goesDown", desc := "(I)Z" } : Jvm.MethodName) prog_16_method_138_code (2 : Nat) (Option.some Jvm.ClassFile.FieldType.boolean)) ∈ lw_tbl := lw_at lw_m14 190 rfl
theorem qt3556 : (Jvm.Cond.methodLink "RegionHouseModel" (976 : Nat) ({ cls := "RegionHouseModel", name := "applyOn", desc := "(I)V" } : Jvm.MethodName)) ∈ lw_tbl := lw_at lw_m14 191 rfl
theorem qt3558 : (Jvm.Cond.instanceMethod ({ cls := "RegionHouseModel", name := "applyOn", desc := "(I)V" } : Jvm.MethodName)) ∈ lw_tbl := lw_at lw_m14 193 rfl
theorem qt3559 : (Jvm.Cond.code ({ cls := "RegionHouseModel", name := "applyOn", desc := "(I)V" } : Jvm.MethodName) prog_16_method_140_code (7 : Nat) (Option.none : Option Jvm.ClassFile.FieldType)) ∈ lw_tbl := lw_at lw_m14 194 rfl
theorem qt3560 : (Jvm.Cond.methodLink "RegionHouseModel" (979 : Nat) ({ cls := "RegionHouseModel", name := "endPart", desc := "(II)V" } : Jvm.MethodName)) ∈ lw_tbl := lw_at lw_m14 195 rfl
theorem qt3562 : (Jvm.Cond.instanceMethod ({ cls := "RegionHouseModel", name := "endPart", desc := "(II)V" } : Jvm.MethodName)) ∈ lw_tbl := lw_at lw_m14 197 rfl
theorem qt3563 : (Jvm.Cond.code ({ cls := "RegionHouseModel", name := "endPart", desc := "(II)V" } : Jvm.MethodName) prog_16_method_141_code (5 : Nat) (Option.none : Option Jvm.ClassFile.FieldType)) ∈ lw_tbl := lw_at lw_m14 198 rfl
theorem qt3564 : (Jvm.Cond.methodLink "RegionHouseModel" (930 : Nat) ({ cls := "RegionHouseModel", name := "beginPart", desc := "(I)V" } : Jvm.MethodName)) ∈ lw_tbl := lw_at lw_m14 199 rfl
theorem qt3566 : (Jvm.Cond.instanceMethod ({ cls := "RegionHouseModel", name := "beginPart", desc := "(I)V" } : Jvm.MethodName)) ∈ lw_tbl := lw_at lw_m14 201 rfl
theorem qt3567 : (Jvm.Cond.code ({ cls := "RegionHouseModel", name := "beginPart", desc := "(I)V" } : Jvm.MethodName) prog_16_method_129_code (4 : Nat) (Option.none : Option Jvm.ClassFile.FieldType)) ∈ lw_tbl := lw_at lw_m14 202 rfl
theorem qt3568 : (Jvm.Cond.methodLink "RegionHouseModel" (936 : Nat) ({ cls := "RegionHouseModel", name := "pushVariable", desc := "(I)V" } : Jvm.MethodName)) ∈ lw_tbl := lw_at lw_m14 203 rfl
theorem qt3570 : (Jvm.Cond.instanceMethod ({ cls := "RegionHouseModel", name := "pushVariable", desc := "(I)V" } : Jvm.MethodName)) ∈ lw_tbl := lw_at lw_m14 205 rfl
theorem qt3571 : (Jvm.Cond.code ({ cls := "RegionHouseModel", name := "pushVariable", desc := "(I)V" } : Jvm.MethodName) prog_16_method_131_code (3 : Nat) (Option.none : Option Jvm.ClassFile.FieldType)) ∈ lw_tbl := lw_at lw_m14 206 rfl
theorem qt3572 : (Jvm.Cond.methodLink "RegionHouseModel" (948 : Nat) ({ cls := "RegionHouseModel", name := "lookUp", desc := "(I)V" } : Jvm.MethodName)) ∈ lw_tbl := lw_at lw_m14 207 rfl
theorem qt3574 : (Jvm.Cond.instanceMethod ({ cls := "RegionHouseModel", name := "lookUp", desc := "(I)V" } : Jvm.MethodName)) ∈ lw_tbl := lw_at lw_m14 209 rfl
theorem qt3575 : (Jvm.Cond.code ({ cls := "RegionHouseModel", name := "lookUp", desc := "(I)V" } : Jvm.MethodName) prog_16_method_130_code (4 : Nat) (Option.none : Option Jvm.ClassFile.FieldType)) ∈ lw_tbl := lw_at lw_m14 210 rfl
theorem qt3576 : (Jvm.Cond.methodLink "RegionHouseModel" (939 : Nat) ({ cls := "RegionHouseModel", name := "makeClosure", desc := "(I)V" } : Jvm.MethodName)) ∈ lw_tbl := lw_at lw_m14 211 rfl
theorem qt3578 : (Jvm.Cond.instanceMethod ({ cls := "RegionHouseModel", name := "makeClosure", desc := "(I)V" } : Jvm.MethodName)) ∈ lw_tbl := lw_at lw_m14 213 rfl
theorem qt3579 : (Jvm.Cond.code ({ cls := "RegionHouseModel", name := "makeClosure", desc := "(I)V" } : Jvm.MethodName) prog_16_method_132_code (5 : Nat) (Option.none : Option Jvm.ClassFile.FieldType)) ∈ lw_tbl := lw_at lw_m14 214 rfl
theorem qt3580 : (Jvm.Cond.methodLink "RegionHouseLaw" (110 : Nat) ({ cls := "RegionHouseModel", name := "state", desc := "()I" } : Jvm.MethodName)) ∈ lw_tbl := lw_at lw_m14 215 rfl
theorem qt3581 : (Jvm.Cond.instanceMethod ({ cls := "RegionHouseModel", name := "state", desc := "()I" } : Jvm.MethodName)) ∈ lw_tbl := lw_at lw_m14 216 rfl
theorem qt3582 : (Jvm.Cond.selects "RegionHouseModel" ({ cls := "RegionHouseModel", name := "state", desc := "()I" } : Jvm.MethodName) ({ cls := "RegionHouseModel", name := "state", desc := "()I" } : Jvm.MethodName)) ∈ lw_tbl := lw_at lw_m14 217 rfl
theorem qt3583 : (Jvm.Cond.code ({ cls := "RegionHouseModel", name := "state", desc := "()I" } : Jvm.MethodName) prog_16_method_142_code (1 : Nat) (Option.some Jvm.ClassFile.FieldType.int)) ∈ lw_tbl := lw_at lw_m14 218 rfl
theorem qt3584 : (Jvm.Cond.methodLink "RegionHouseLaw" (114 : Nat) ({ cls := "RegionHouseModel", name := "count", desc := "(I)I" } : Jvm.MethodName)) ∈ lw_tbl := lw_at lw_m14 219 rfl
theorem qt3585 : (Jvm.Cond.instanceMethod ({ cls := "RegionHouseModel", name := "count", desc := "(I)I" } : Jvm.MethodName)) ∈ lw_tbl := lw_at lw_m14 220 rfl
theorem qt3586 : (Jvm.Cond.selects "RegionHouseModel" ({ cls := "RegionHouseModel", name := "count", desc := "(I)I" } : Jvm.MethodName) ({ cls := "RegionHouseModel", name := "count", desc := "(I)I" } : Jvm.MethodName)) ∈ lw_tbl := lw_at lw_m14 221 rfl
theorem qt3587 : (Jvm.Cond.code ({ cls := "RegionHouseModel", name := "count", desc := "(I)I" } : Jvm.MethodName) prog_16_method_143_code (2 : Nat) (Option.some Jvm.ClassFile.FieldType.int)) ∈ lw_tbl := lw_at lw_m14 222 rfl
theorem qt3588 : (Jvm.Cond.methodLink "RegionHouseLaw" (118 : Nat) ({ cls := "RegionHouseModel", name := "there", desc := "(II)I" } : Jvm.MethodName)) ∈ lw_tbl := lw_at lw_m14 223 rfl
theorem qt3589 : (Jvm.Cond.instanceMethod ({ cls := "RegionHouseModel", name := "there", desc := "(II)I" } : Jvm.MethodName)) ∈ lw_tbl := lw_at lw_m14 224 rfl
theorem qt3590 : (Jvm.Cond.selects "RegionHouseModel" ({ cls := "RegionHouseModel", name := "there", desc := "(II)I" } : Jvm.MethodName) ({ cls := "RegionHouseModel", name := "there", desc := "(II)I" } : Jvm.MethodName)) ∈ lw_tbl := lw_at lw_m14 225 rfl
theorem qt3591 : (Jvm.Cond.code ({ cls := "RegionHouseModel", name := "there", desc := "(II)I" } : Jvm.MethodName) prog_16_method_144_code (3 : Nat) (Option.some Jvm.ClassFile.FieldType.int)) ∈ lw_tbl := lw_at lw_m14 226 rfl
theorem qt3592 : (Jvm.Cond.methodLink "RegionHouseLaw" (122 : Nat) ({ cls := "RegionHouseModel", name := "strays", desc := "()I" } : Jvm.MethodName)) ∈ lw_tbl := lw_at lw_m14 227 rfl
theorem qt3593 : (Jvm.Cond.instanceMethod ({ cls := "RegionHouseModel", name := "strays", desc := "()I" } : Jvm.MethodName)) ∈ lw_tbl := lw_at lw_m14 228 rfl
theorem qt3594 : (Jvm.Cond.selects "RegionHouseModel" ({ cls := "RegionHouseModel", name := "strays", desc := "()I" } : Jvm.MethodName) ({ cls := "RegionHouseModel", name := "strays", desc := "()I" } : Jvm.MethodName)) ∈ lw_tbl := lw_at lw_m14 229 rfl
theorem qt3595 : (Jvm.Cond.code ({ cls := "RegionHouseModel", name := "strays", desc := "()I" } : Jvm.MethodName) prog_16_method_145_code (1 : Nat) (Option.some Jvm.ClassFile.FieldType.int)) ∈ lw_tbl := lw_at lw_m14 230 rfl
theorem qt3596 : (Jvm.Cond.methodLink "RegionHouseLaw" (126 : Nat) ({ cls := "RegionHouseModel", name := "collect", desc := "()I" } : Jvm.MethodName)) ∈ lw_tbl := lw_at lw_m14 231 rfl
theorem qt3597 : (Jvm.Cond.instanceMethod ({ cls := "RegionHouseModel", name := "collect", desc := "()I" } : Jvm.MethodName)) ∈ lw_tbl := lw_at lw_m14 232 rfl
theorem qt3598 : (Jvm.Cond.selects "RegionHouseModel" ({ cls := "RegionHouseModel", name := "collect", desc := "()I" } : Jvm.MethodName) ({ cls := "RegionHouseModel", name := "collect", desc := "()I" } : Jvm.MethodName)) ∈ lw_tbl := lw_at lw_m14 233 rfl
theorem qt3599 : (Jvm.Cond.code ({ cls := "RegionHouseModel", name := "collect", desc := "()I" } : Jvm.MethodName) prog_16_method_146_code (2 : Nat) (Option.some Jvm.ClassFile.FieldType.int)) ∈ lw_tbl := lw_at lw_m14 234 rfl
theorem qt3600 : (Jvm.Cond.methodLink "RegionHouseLaw" (129 : Nat) ({ cls := "RegionHouseModel", name := "show", desc := "()I" } : Jvm.MethodName)) ∈ lw_tbl := lw_at lw_m14 235 rfl
theorem qt3601 : (Jvm.Cond.instanceMethod ({ cls := "RegionHouseModel", name := "show", desc := "()I" } : Jvm.MethodName)) ∈ lw_tbl := lw_at lw_m14 236 rfl
theorem qt3602 : (Jvm.Cond.selects "RegionHouseModel" ({ cls := "RegionHouseModel", name := "show", desc := "()I" } : Jvm.MethodName) ({ cls := "RegionHouseModel", name := "show", desc := "()I" } : Jvm.MethodName)) ∈ lw_tbl := lw_at lw_m14 237 rfl
theorem qt3603 : (Jvm.Cond.code ({ cls := "RegionHouseModel", name := "show", desc := "()I" } : Jvm.MethodName) prog_16_method_148_code (3 : Nat) (Option.some Jvm.ClassFile.FieldType.int)) ∈ lw_tbl := lw_at lw_m14 238 rfl
theorem qt3604 : (Jvm.Cond.methodLink "RegionHouseModel" (985 : Nat) ({ cls := "RegionHouseModel", name := "toShow", desc := "(II)V" } : Jvm.MethodName)) ∈ lw_tbl := lw_at lw_m14 239 rfl
theorem qt3606 : (Jvm.Cond.instanceMethod ({ cls := "RegionHouseModel", name := "toShow", desc := "(II)V" } : Jvm.MethodName)) ∈ lw_tbl := lw_at lw_m15 1 rfl
theorem qt3607 : (Jvm.Cond.code ({ cls := "RegionHouseModel", name := "toShow", desc := "(II)V" } : Jvm.MethodName) prog_16_method_147_code (3 : Nat) (Option.none : Option Jvm.ClassFile.FieldType)) ∈ lw_tbl := lw_at lw_m15 2 rfl
theorem qt3609 : (Jvm.Cond.methodLink "RegionHouseModel" (990 : Nat) ({ cls := "RegionHouseModel", name := "showObject", desc := "(I)V" } : Jvm.MethodName)) ∈ lw_tbl := lw_at lw_m15 4 rfl
theorem qt3611 : (Jvm.Cond.instanceMethod ({ cls := "RegionHouseModel", name := "showObject", desc := "(I)V" } : Jvm.MethodName)) ∈ lw_tbl := lw_at lw_m15 6 rfl
theorem qt3612 : (Jvm.Cond.code ({ cls := "RegionHouseModel", name := "showObject", desc := "(I)V" } : Jvm.MethodName) prog_16_method_149_code (3 : Nat) (Option.none : Option Jvm.ClassFile.FieldType)) ∈ lw_tbl := lw_at lw_m15 7 rfl
theorem qt3613 : (Jvm.Cond.methodLink "RegionHouseModel" (993 : Nat) ({ cls := "RegionHouseModel", name := "showRest", desc := "(II)V" } : Jvm.MethodName)) ∈ lw_tbl := lw_at lw_m15 8 rfl
theorem qt3615 : (Jvm.Cond.instanceMethod ({ cls := "RegionHouseModel", name := "showRest", desc := "(II)V" } : Jvm.MethodName)) ∈ lw_tbl := lw_at lw_m15 10 rfl
theorem qt3616 : (Jvm.Cond.code ({ cls := "RegionHouseModel", name := "showRest", desc := "(II)V" } : Jvm.MethodName) prog_16_method_150_code (4 : Nat) (Option.none : Option Jvm.ClassFile.FieldType)) ∈ lw_tbl := lw_at lw_m15 11 rfl
theorem qt3617 : (Jvm.Cond.constantLong "RegionHouseLaw" (47 : Nat) (4294967295 : Int64)) ∈ lw_tbl := lw_at lw_m15 12 rfl
theorem qt3620 : (Jvm.Cond.fieldLink "java/lang/String" (9 : Nat) "java/lang/String" "value" "[B") ∈ lw_tbl := lw_at lw_m15 15 rfl
theorem qt3621 : (Jvm.Cond.fieldLink "java/lang/String" (15 : Nat) "java/lang/String" "coder" "B") ∈ lw_tbl := lw_at lw_m15 16 rfl
theorem cl_0 : pcl[0]? = some (RX1, TX1, 15) := rfl
theorem cl_1 : pcl[1]? = some (RX1, TX1, 15) := rfl
theorem cl_2 : pcl[2]? = some (RX2, TX2, 2) := rfl
theorem cl_3 : pcl[3]? = some (RX3, TX3, 2) := rfl
theorem cl_4 : pcl[4]? = some (RX4, TX4, 10) := rfl
theorem cl_5 : pcl[5]? = some (RX5, TX5, 39) := rfl
theorem cl_6 : pcl[6]? = some (RX6, TX6, 18) := rfl
theorem cl_7 : pcl[7]? = some (RX7, TX7, 13) := rfl
theorem cl_8 : pcl[8]? = some (RX8, TX8, 14) := rfl
theorem cl_9 : pcl[9]? = some (RX9, TX9, 20) := rfl
theorem cl_10 : pcl[10]? = some (RX10, TX10, 15) := rfl
theorem cl_11 : pcl[11]? = some (RX11, TX11, 11) := rfl
theorem cl_12 : pcl[12]? = some (RX12, TX12, 3) := rfl
theorem cl_13 : pcl[13]? = some (RX13, TX13, 27) := rfl
theorem cl_14 : pcl[14]? = some (RX14, TX14, 18) := rfl
theorem cl_15 : pcl[15]? = some (RX15, TX15, 171) := rfl
theorem cl_16 : pcl[16]? = some (RJ7, TJ7, 6) := rfl
theorem cl_17 : pcl[17]? = some (RJ10, TJ10, 6) := rfl
theorem cl_18 : pcl[18]? = some (RJ11, TJ11, 6) := rfl
theorem cl_19 : pcl[19]? = some (RJ12, TJ12, 6) := rfl
theorem gg_0 : GG 0 = (⟨"RegionHouseLaw", "compile", "(LRegionHouse;[J)I"⟩, method_3_code, [(0, 8, 11, 13)]) := rfl
theorem gg_1 : GG 1 = (⟨"RegionHouseLaw", "annotate", "(LRegionHouse;[J)I"⟩, method_4_code, [(0, 8, 11, 18)]) := rfl
theorem gg_2 : GG 2 = (⟨"RegionHouseLaw", "signature", "(LRegionHouse;I[J)I"⟩, method_5_code, [(0, 9, 12, 18), (0, 9, 15, 24)]) := rfl
theorem gg_3 : GG 3 = (⟨"RegionHouseLaw", "function", "(LRegionHouse;II[J)I"⟩, method_6_code, [(0, 10, 13, 18), (0, 10, 17, 24)]) := rfl
theorem gg_4 : GG 4 = (⟨"RegionHouseLaw", "region", "(LRegionHouse;III[J)I"⟩, method_7_code, [(0, 12, 15, 18), (0, 12, 19, 24)]) := rfl
theorem gg_5 : GG 5 = (⟨"RegionHouseLaw", "begin", "(LRegionHouse;)I"⟩, method_8_code, [(0, 4, 7, 18)]) := rfl
theorem gg_6 : GG 6 = (⟨"RegionHouseLaw", "go", "(LRegionHouse;I[J)I"⟩, method_9_code, [(0, 9, 12, 13), (0, 9, 15, 18)]) := rfl
theorem gg_7 : GG 7 = (⟨"RegionHouseLaw", "show", "(LRegionHouse;[J)I"⟩, method_10_code, [(0, 8, 11, 18)]) := rfl
theorem gg_8 : GG 8 = (⟨"RegionHouse", "<init>", "()V"⟩, prog_1_method_1_code, []) := rfl
theorem gg_9 : GG 9 = (⟨"RegionHouse", "type", "(J)I"⟩, prog_1_method_5_code, []) := rfl
theorem gg_10 : GG 10 = (⟨"RegionHouse", "fault", "(I)I"⟩, prog_1_method_8_code, []) := rfl
theorem gg_11 : GG 11 = (⟨"RegionHouse", "letter", "(I)I"⟩, prog_1_method_12_code, []) := rfl
theorem gg_12 : GG 12 = (⟨"RegionHouse", "again", "()I"⟩, prog_1_method_13_code, []) := rfl
theorem gg_13 : GG 13 = (⟨"RegionHouse", "pool", "(II)Z"⟩, prog_1_method_16_code, []) := rfl
theorem gg_14 : GG 14 = (⟨"RegionHouse", "every", "(I)Z"⟩, prog_1_method_17_code, []) := rfl
theorem gg_15 : GG 15 = (⟨"RegionHouse", "state", "()I"⟩, prog_1_method_20_code, []) := rfl
theorem gg_16 : GG 16 = (⟨"RegionHouse", "count", "(I)I"⟩, prog_1_method_21_code, []) := rfl
theorem gg_17 : GG 17 = (⟨"RegionHouse", "there", "(II)I"⟩, prog_1_method_22_code, []) := rfl
theorem gg_18 : GG 18 = (⟨"RegionHouse", "strays", "()I"⟩, prog_1_method_23_code, []) := rfl
theorem gg_19 : GG 19 = (⟨"RegionHouse", "collect", "()I"⟩, prog_1_method_24_code, []) := rfl
theorem gg_20 : GG 20 = (⟨"RegionHouse", "compile", "()I"⟩, prog_1_method_7_code, [(19, 28, 31, 172)]) := rfl
theorem gg_21 : GG 21 = (⟨"RegionHouse", "read", "()V"⟩, prog_1_method_6_code, []) := rfl
theorem gg_22 : GG 22 = (⟨"RegionHouse", "right", "(Z)V"⟩, prog_1_method_4_code, []) := rfl
theorem gg_23 : GG 23 = (⟨"RegionHouse", "annotate", "()I"⟩, prog_1_method_9_code, []) := rfl
theorem gg_24 : GG 24 = (⟨"RegionHouse", "can", "(Z)V"⟩, prog_1_method_2_code, []) := rfl
theorem gg_25 : GG 25 = (⟨"RegionHouse", "signature", "(I)I"⟩, prog_1_method_11_code, []) := rfl
theorem gg_26 : GG 26 = (⟨"RegionHouse", "thereIs", "(I)V"⟩, prog_1_method_10_code, []) := rfl
theorem gg_27 : GG 27 = (⟨"RegionHouse", "there", "(Z)V"⟩, prog_1_method_3_code, []) := rfl
theorem gg_28 : GG 28 = (⟨"RegionHouse", "function", "(II)I"⟩, prog_1_method_14_code, []) := rfl
theorem gg_29 : GG 29 = (⟨"RegionHouse", "region", "(III)I"⟩, prog_1_method_15_code, []) := rfl
theorem gg_30 : GG 30 = (⟨"RegionHouse", "begin", "()V"⟩, prog_1_method_18_code, []) := rfl
theorem gg_31 : GG 31 = (⟨"RegionHouse", "go", "(I)I"⟩, prog_1_method_19_code, []) := rfl
theorem gg_32 : GG 32 = (⟨"RegionHouse", "show", "()I"⟩, prog_1_method_25_code, []) := rfl
theorem gg_33 : GG 33 = (⟨"RegionHouse$Signs", "<init>", "(I)V"⟩, prog_11_method_1_code, []) := rfl
theorem gg_34 : GG 34 = (⟨"RegionHouse$Signs", "add", "(I)V"⟩, prog_11_method_6_code, []) := rfl
theorem gg_35 : GG 35 = (⟨"RegionHouse$Signs", "isFull", "()Z"⟩, prog_11_method_5_code, []) := rfl
theorem gg_36 : GG 36 = (⟨"RegionHouse$Signs", "size", "()I"⟩, prog_11_method_2_code, []) := rfl
theorem gg_37 : GG 37 = (⟨"RegionHouse$Signs", "at", "(I)I"⟩, prog_11_method_3_code, []) := rfl
theorem gg_38 : GG 38 = (⟨"RegionHouse$Signs", "clear", "()V"⟩, prog_11_method_4_code, []) := rfl
theorem gg_39 : GG 39 = (⟨"RegionHouse$Signs", "add", "(Ljava/lang/String;)V"⟩, prog_11_method_7_code, []) := rfl
theorem gg_40 : GG 40 = (⟨"RegionHouse$Signs", "addNumber", "(I)V"⟩, prog_11_method_8_code, []) := rfl
theorem gg_41 : GG 41 = (⟨"RegionHouse$Fault", "<init>", "()V"⟩, prog_3_method_1_code, []) := rfl
theorem gg_42 : GG 42 = (⟨"RegionHouse$Fault", "kind", "()I"⟩, prog_3_method_2_code, []) := rfl
theorem gg_43 : GG 43 = (⟨"RegionHouse$Fault", "place", "()I"⟩, prog_3_method_3_code, []) := rfl
theorem gg_44 : GG 44 = (⟨"RegionHouse$Fault", "clear", "()V"⟩, prog_3_method_4_code, []) := rfl
theorem gg_45 : GG 45 = (⟨"RegionHouse$Fault", "fail", "(II)V"⟩, prog_3_method_5_code, []) := rfl
theorem gg_46 : GG 46 = (⟨"RegionHouse$Lexemes", "<init>", "()V"⟩, prog_4_method_1_code, []) := rfl
theorem gg_47 : GG 47 = (⟨"RegionHouse$Lexemes", "cut", "(LRegionHouse$Signs;)I"⟩, prog_4_method_17_code, []) := rfl
theorem gg_48 : GG 48 = (⟨"RegionHouse$Lexemes", "readOne", "(I)I"⟩, prog_4_method_16_code, []) := rfl
theorem gg_49 : GG 49 = (⟨"RegionHouse$Lexemes", "here", "(I)I"⟩, prog_4_method_9_code, []) := rfl
theorem gg_50 : GG 50 = (⟨"RegionHouse$Lexemes", "isLetter", "(I)Z"⟩, prog_4_method_10_code, []) := rfl
theorem gg_51 : GG 51 = (⟨"RegionHouse$Lexemes", "readName", "(I)I"⟩, prog_4_method_13_code, []) := rfl
theorem gg_52 : GG 52 = (⟨"RegionHouse$Lexemes", "isDigit", "(I)Z"⟩, prog_4_method_11_code, []) := rfl
theorem gg_53 : GG 53 = (⟨"RegionHouse$Lexemes", "add", "(III)V"⟩, prog_4_method_12_code, []) := rfl
theorem gg_54 : GG 54 = (⟨"RegionHouse$Lexemes", "readNumber", "(I)I"⟩, prog_4_method_14_code, []) := rfl
theorem gg_55 : GG 55 = (⟨"RegionHouse$Lexemes", "readSign", "(I)I"⟩, prog_4_method_15_code, []) := rfl
theorem gg_56 : GG 56 = (⟨"RegionHouse$Lexemes", "isWord", "(II)Z"⟩, prog_4_method_7_code, []) := rfl
theorem gg_57 : GG 57 = (⟨"RegionHouse$Lexemes", "kind", "(I)I"⟩, prog_4_method_3_code, []) := rfl
theorem gg_58 : GG 58 = (⟨"RegionHouse$Lexemes", "start", "(I)I"⟩, prog_4_method_6_code, []) := rfl
theorem gg_59 : GG 59 = (⟨"RegionHouse$Lexemes", "name", "(I)J"⟩, prog_4_method_5_code, []) := rfl
theorem gg_60 : GG 60 = (⟨"RegionHouse$Lexemes", "isSign", "(II)Z"⟩, prog_4_method_8_code, []) := rfl
theorem gg_61 : GG 61 = (⟨"RegionHouse$Lexemes", "value", "(I)I"⟩, prog_4_method_4_code, []) := rfl
theorem gg_62 : GG 62 = (⟨"RegionHouse$Lexemes", "many", "()I"⟩, prog_4_method_2_code, []) := rfl
theorem gg_63 : GG 63 = (⟨"RegionHouse$Lexemes", "write", "(ILRegionHouse$Signs;)V"⟩, prog_4_method_18_code, []) := rfl
theorem gg_64 : GG 64 = (⟨"RegionHouse$Program", "<init>", "()V"⟩, prog_8_method_1_code, []) := rfl
theorem gg_65 : GG 65 = (⟨"RegionHouse$Program", "clear", "()V"⟩, prog_8_method_2_code, []) := rfl
theorem gg_66 : GG 66 = (⟨"RegionHouse$Program", "function", "(JI)I"⟩, prog_8_method_9_code, []) := rfl
theorem gg_67 : GG 67 = (⟨"RegionHouse$Program", "variable", "(JI)I"⟩, prog_8_method_8_code, []) := rfl
theorem gg_68 : GG 68 = (⟨"RegionHouse$Program", "addVariable", "(JIII)I"⟩, prog_8_method_6_code, []) := rfl
theorem gg_69 : GG 69 = (⟨"RegionHouse$Program", "addFn", "(I)I"⟩, prog_8_method_7_code, []) := rfl
theorem gg_70 : GG 70 = (⟨"RegionHouse$Program", "add", "(IIII)I"⟩, prog_8_method_3_code, []) := rfl
theorem gg_71 : GG 71 = (⟨"RegionHouse$Program", "put", "(IIII)V"⟩, prog_8_method_4_code, []) := rfl
theorem gg_72 : GG 72 = (⟨"RegionHouse$Program", "enclose", "(III)V"⟩, prog_8_method_5_code, []) := rfl
theorem gg_73 : GG 73 = (⟨"RegionHouse$Program", "capture", "(II)V"⟩, prog_8_method_11_code, []) := rfl
theorem gg_74 : GG 74 = (⟨"RegionHouse$Program", "captureOf", "(II)I"⟩, prog_8_method_10_code, []) := rfl
theorem gg_75 : GG 75 = (⟨"RegionHouse$Program", "grow", "()V"⟩, prog_8_method_12_code, []) := rfl
theorem gg_76 : GG 76 = (⟨"RegionHouse$Program", "whole", "(I)I"⟩, prog_8_method_13_code, []) := rfl
theorem gg_77 : GG 77 = (⟨"RegionHouse$Types", "<init>", "()V"⟩, prog_13_method_1_code, []) := rfl
theorem gg_78 : GG 78 = (⟨"RegionHouse$Types", "clear", "()V"⟩, prog_13_method_2_code, []) := rfl
theorem gg_79 : GG 79 = (⟨"RegionHouse$Types", "add", "(III)I"⟩, prog_13_method_4_code, []) := rfl
theorem gg_80 : GG 80 = (⟨"RegionHouse$Types", "grow", "()V"⟩, prog_13_method_3_code, []) := rfl
theorem gg_81 : GG 81 = (⟨"RegionHouse$Types", "unknown", "()I"⟩, prog_13_method_5_code, []) := rfl
theorem gg_82 : GG 82 = (⟨"RegionHouse$Types", "beginCopy", "()V"⟩, prog_13_method_29_code, []) := rfl
theorem gg_83 : GG 83 = (⟨"RegionHouse$Types", "copy", "(I)I"⟩, prog_13_method_30_code, []) := rfl
theorem gg_84 : GG 84 = (⟨"RegionHouse$Types", "find", "(I)I"⟩, prog_13_method_7_code, []) := rfl
theorem gg_85 : GG 85 = (⟨"RegionHouse$Types", "push", "(I)V"⟩, prog_13_method_12_code, []) := rfl
theorem gg_86 : GG 86 = (⟨"RegionHouse$Types", "copyAll", "()V"⟩, prog_13_method_31_code, []) := rfl
theorem gg_87 : GG 87 = (⟨"RegionHouse$Types", "pop", "()I"⟩, prog_13_method_13_code, []) := rfl
theorem gg_88 : GG 88 = (⟨"RegionHouse$Types", "hold", "(II)Z"⟩, prog_13_method_19_code, []) := rfl
theorem gg_89 : GG 89 = (⟨"RegionHouse$Types", "kind", "(I)I"⟩, prog_13_method_8_code, []) := rfl
theorem gg_90 : GG 90 = (⟨"RegionHouse$Types", "isHeld", "(II)Z"⟩, prog_13_method_18_code, []) := rfl
theorem gg_91 : GG 91 = (⟨"RegionHouse$Types", "first", "(I)I"⟩, prog_13_method_9_code, []) := rfl
theorem gg_92 : GG 92 = (⟨"RegionHouse$Types", "second", "(I)I"⟩, prog_13_method_10_code, []) := rfl
theorem gg_93 : GG 93 = (⟨"RegionHouse$Types", "number", "()I"⟩, prog_13_method_6_code, []) := rfl
theorem gg_94 : GG 94 = (⟨"RegionHouse$Types", "alike", "(II)Z"⟩, prog_13_method_15_code, []) := rfl
theorem gg_95 : GG 95 = (⟨"RegionHouse$Types", "joinHolds", "(II)V"⟩, prog_13_method_16_code, []) := rfl
theorem gg_96 : GG 96 = (⟨"RegionHouse$Types", "isRound", "(I)Z"⟩, prog_13_method_17_code, []) := rfl
theorem gg_97 : GG 97 = (⟨"RegionHouse$Types", "pushParts", "(I)V"⟩, prog_13_method_14_code, []) := rfl
theorem gg_98 : GG 98 = (⟨"RegionHouse$Types", "begin", "()V"⟩, prog_13_method_20_code, []) := rfl
theorem gg_99 : GG 99 = (⟨"RegionHouse$Types", "reach", "(II)V"⟩, prog_13_method_21_code, []) := rfl
theorem gg_100 : GG 100 = (⟨"RegionHouse$Types", "isReached", "(I)Z"⟩, prog_13_method_28_code, []) := rfl
theorem gg_101 : GG 101 = (⟨"RegionHouse$Types", "reached", "()I"⟩, prog_13_method_22_code, []) := rfl
theorem gg_102 : GG 102 = (⟨"RegionHouse$Types", "measure", "(I)V"⟩, prog_13_method_23_code, []) := rfl
theorem gg_103 : GG 103 = (⟨"RegionHouse$Types", "heldBy", "(I)I"⟩, prog_13_method_24_code, []) := rfl
theorem gg_104 : GG 104 = (⟨"RegionHouse$Types", "measured", "()I"⟩, prog_13_method_27_code, []) := rfl
theorem gg_105 : GG 105 = (⟨"RegionHouse$Types", "unknowns", "()I"⟩, prog_13_method_25_code, []) := rfl
theorem gg_106 : GG 106 = (⟨"RegionHouse$Types", "heldIn", "()I"⟩, prog_13_method_26_code, []) := rfl
theorem gg_107 : GG 107 = (⟨"RegionHouse$Reader", "<init>", "(LRegionHouse$Lexemes;LRegionHouse$Program;LRegionHouse$Fault;)V"⟩, prog_9_method_1_code, []) := rfl
theorem gg_108 : GG 108 = (⟨"RegionHouse$Reader", "read", "()V"⟩, prog_9_method_12_code, []) := rfl
theorem gg_109 : GG 109 = (⟨"RegionHouse$Reader", "isWord", "(I)Z"⟩, prog_9_method_3_code, []) := rfl
theorem gg_110 : GG 110 = (⟨"RegionHouse$Reader", "function", "()V"⟩, prog_9_method_13_code, []) := rfl
theorem gg_111 : GG 111 = (⟨"RegionHouse$Reader", "fail", "(II)V"⟩, prog_9_method_2_code, []) := rfl
theorem gg_112 : GG 112 = (⟨"RegionHouse$Reader", "mustSign", "(I)V"⟩, prog_9_method_6_code, []) := rfl
theorem gg_113 : GG 113 = (⟨"RegionHouse$Reader", "takeSign", "(I)Z"⟩, prog_9_method_5_code, []) := rfl
theorem gg_114 : GG 114 = (⟨"RegionHouse$Reader", "isSign", "(I)Z"⟩, prog_9_method_4_code, []) := rfl
theorem gg_115 : GG 115 = (⟨"RegionHouse$Reader", "parameter", "(I)I"⟩, prog_9_method_14_code, []) := rfl
theorem gg_116 : GG 116 = (⟨"RegionHouse$Reader", "variable", "(I)I"⟩, prog_9_method_10_code, []) := rfl
theorem gg_117 : GG 117 = (⟨"RegionHouse$Reader", "known", "()I"⟩, prog_9_method_11_code, []) := rfl
theorem gg_118 : GG 118 = (⟨"RegionHouse$Reader", "whole", "()V"⟩, prog_9_method_15_code, []) := rfl
theorem gg_119 : GG 119 = (⟨"RegionHouse$Reader", "expression", "()I"⟩, prog_9_method_17_code, []) := rfl
theorem gg_120 : GG 120 = (⟨"RegionHouse$Reader", "fn", "()I"⟩, prog_9_method_18_code, []) := rfl
theorem gg_121 : GG 121 = (⟨"RegionHouse$Reader", "choice", "()I"⟩, prog_9_method_19_code, []) := rfl
theorem gg_122 : GG 122 = (⟨"RegionHouse$Reader", "mustWord", "(I)V"⟩, prog_9_method_7_code, []) := rfl
theorem gg_123 : GG 123 = (⟨"RegionHouse$Reader", "let", "()I"⟩, prog_9_method_20_code, []) := rfl
theorem gg_124 : GG 124 = (⟨"RegionHouse$Reader", "cases", "()I"⟩, prog_9_method_21_code, []) := rfl
theorem gg_125 : GG 125 = (⟨"RegionHouse$Reader", "chain", "()I"⟩, prog_9_method_22_code, []) := rfl
theorem gg_126 : GG 126 = (⟨"RegionHouse$Reader", "compared", "()I"⟩, prog_9_method_24_code, []) := rfl
theorem gg_127 : GG 127 = (⟨"RegionHouse$Reader", "sum", "()I"⟩, prog_9_method_25_code, []) := rfl
theorem gg_128 : GG 128 = (⟨"RegionHouse$Reader", "product", "()I"⟩, prog_9_method_26_code, []) := rfl
theorem gg_129 : GG 129 = (⟨"RegionHouse$Reader", "applied", "()I"⟩, prog_9_method_28_code, []) := rfl
theorem gg_130 : GG 130 = (⟨"RegionHouse$Reader", "atom", "()I"⟩, prog_9_method_29_code, []) := rfl
theorem gg_131 : GG 131 = (⟨"RegionHouse$Reader", "hold", "(I)V"⟩, prog_9_method_8_code, []) := rfl
theorem gg_132 : GG 132 = (⟨"RegionHouse$Reader", "simple", "()I"⟩, prog_9_method_31_code, []) := rfl
theorem gg_133 : GG 133 = (⟨"RegionHouse$Reader", "alone", "(II)I"⟩, prog_9_method_30_code, []) := rfl
theorem gg_134 : GG 134 = (⟨"RegionHouse$Reader", "bracket", "()I"⟩, prog_9_method_32_code, []) := rfl
theorem gg_135 : GG 135 = (⟨"RegionHouse$Reader", "call", "(I)I"⟩, prog_9_method_33_code, []) := rfl
theorem gg_136 : GG 136 = (⟨"RegionHouse$Reader", "drop", "()I"⟩, prog_9_method_9_code, []) := rfl
theorem gg_137 : GG 137 = (⟨"RegionHouse$Reader", "isAtom", "()Z"⟩, prog_9_method_27_code, []) := rfl
theorem gg_138 : GG 138 = (⟨"RegionHouse$Reader", "between", "(IIII)I"⟩, prog_9_method_23_code, []) := rfl
theorem gg_139 : GG 139 = (⟨"RegionHouse$Reader", "far", "()V"⟩, prog_9_method_16_code, []) := rfl
theorem gg_140 : GG 140 = (⟨"RegionHouse$Typing", "<init>", "(LRegionHouse$Lexemes;LRegionHouse$Program;LRegionHouse$Types;LRegionHouse$Fault;)V"⟩, prog_14_method_1_code, []) := rfl
theorem gg_141 : GG 141 = (⟨"RegionHouse$Typing", "clear", "()V"⟩, prog_14_method_2_code, []) := rfl
theorem gg_142 : GG 142 = (⟨"RegionHouse$Typing", "find", "(I)V"⟩, prog_14_method_14_code, []) := rfl
theorem gg_143 : GG 143 = (⟨"RegionHouse$Typing", "copy", "(I)V"⟩, prog_14_method_16_code, []) := rfl
theorem gg_144 : GG 144 = (⟨"RegionHouse$Typing", "parameter", "(II)I"⟩, prog_14_method_6_code, []) := rfl
theorem gg_145 : GG 145 = (⟨"RegionHouse$Typing", "keep", "(I)V"⟩, prog_14_method_15_code, []) := rfl
theorem gg_146 : GG 146 = (⟨"RegionHouse$Typing", "region", "(II)I"⟩, prog_14_method_11_code, []) := rfl
theorem gg_147 : GG 147 = (⟨"RegionHouse$Typing", "own", "(II)I"⟩, prog_14_method_18_code, []) := rfl
theorem gg_148 : GG 148 = (⟨"RegionHouse$Typing", "called", "(III)I"⟩, prog_14_method_17_code, []) := rfl
theorem gg_149 : GG 149 = (⟨"RegionHouse$Typing", "place", "(II)V"⟩, prog_14_method_19_code, []) := rfl
theorem gg_150 : GG 150 = (⟨"RegionHouse$Typing", "wants", "(II)V"⟩, prog_14_method_13_code, []) := rfl
theorem gg_151 : GG 151 = (⟨"RegionHouse$Typing", "must", "(ZI)V"⟩, prog_14_method_12_code, []) := rfl
theorem gg_152 : GG 152 = (⟨"RegionHouse$Typing", "order", "(I)I"⟩, prog_14_method_20_code, []) := rfl
theorem gg_153 : GG 153 = (⟨"RegionHouse$Typing", "type", "(I)I"⟩, prog_14_method_3_code, []) := rfl
theorem gg_154 : GG 154 = (⟨"RegionHouse$Typing", "regions", "(I)I"⟩, prog_14_method_8_code, []) := rfl
theorem gg_155 : GG 155 = (⟨"RegionHouse$Typing", "handed", "(II)I"⟩, prog_14_method_7_code, []) := rfl
theorem gg_156 : GG 156 = (⟨"RegionHouse$Typing", "variable", "(I)I"⟩, prog_14_method_4_code, []) := rfl
theorem gg_157 : GG 157 = (⟨"RegionHouse$Typing", "result", "(I)I"⟩, prog_14_method_5_code, []) := rfl
theorem gg_158 : GG 158 = (⟨"RegionHouse$Typing", "beginRegions", "(I)V"⟩, prog_14_method_9_code, []) := rfl
theorem gg_159 : GG 159 = (⟨"RegionHouse$Typing", "addRegion", "(II)V"⟩, prog_14_method_10_code, []) := rfl
theorem gg_160 : GG 160 = (⟨"RegionHouse$Regions", "<init>", "(LRegionHouse$Lexemes;LRegionHouse$Program;LRegionHouse$Types;LRegionHouse$Typing;LRegionHouse$Fault;)V"⟩, prog_10_method_1_code, []) := rfl
theorem gg_161 : GG 161 = (⟨"RegionHouse$Regions", "kept", "(I)I"⟩, prog_10_method_7_code, []) := rfl
theorem gg_162 : GG 162 = (⟨"RegionHouse$Regions", "clear", "()V"⟩, prog_10_method_2_code, []) := rfl
theorem gg_163 : GG 163 = (⟨"RegionHouse$Regions", "find", "(I)V"⟩, prog_10_method_10_code, []) := rfl
theorem gg_164 : GG 164 = (⟨"RegionHouse$Regions", "puts", "(II)V"⟩, prog_10_method_12_code, []) := rfl
theorem gg_165 : GG 165 = (⟨"RegionHouse$Regions", "put", "(I)V"⟩, prog_10_method_11_code, []) := rfl
theorem gg_166 : GG 166 = (⟨"RegionHouse$Regions", "numbers", "(II)V"⟩, prog_10_method_16_code, []) := rfl
theorem gg_167 : GG 167 = (⟨"RegionHouse$Regions", "number", "(II)I"⟩, prog_10_method_6_code, []) := rfl
theorem gg_168 : GG 168 = (⟨"RegionHouse$Regions", "box", "(II)I"⟩, prog_10_method_4_code, []) := rfl
theorem gg_169 : GG 169 = (⟨"RegionHouse$Regions", "captures", "(I)V"⟩, prog_10_method_13_code, []) := rfl
theorem gg_170 : GG 170 = (⟨"RegionHouse$Regions", "owns", "(II)V"⟩, prog_10_method_14_code, []) := rfl
theorem gg_171 : GG 171 = (⟨"RegionHouse$Regions", "holds", "(II)Z"⟩, prog_10_method_15_code, []) := rfl
theorem gg_172 : GG 172 = (⟨"RegionHouse$Regions", "settle", "(II)V"⟩, prog_10_method_17_code, []) := rfl
theorem gg_173 : GG 173 = (⟨"RegionHouse$Regions", "keeps", "(I)V"⟩, prog_10_method_18_code, []) := rfl
theorem gg_174 : GG 174 = (⟨"RegionHouse$Regions", "owner", "(II)I"⟩, prog_10_method_5_code, []) := rfl
theorem gg_175 : GG 175 = (⟨"RegionHouse$Regions", "keep", "(II)V"⟩, prog_10_method_19_code, []) := rfl
theorem gg_176 : GG 176 = (⟨"RegionHouse$Regions", "check", "(I)V"⟩, prog_10_method_22_code, []) := rfl
theorem gg_177 : GG 177 = (⟨"RegionHouse$Regions", "worse", "(III)I"⟩, prog_10_method_20_code, []) := rfl
theorem gg_178 : GG 178 = (⟨"RegionHouse$Regions", "isGreat", "(I)Z"⟩, prog_10_method_21_code, []) := rfl
theorem gg_179 : GG 179 = (⟨"RegionHouse$Regions", "count", "(I)I"⟩, prog_10_method_3_code, []) := rfl
theorem gg_180 : GG 180 = (⟨"RegionHouse$Regions", "kept", "(II)I"⟩, prog_10_method_8_code, []) := rfl
theorem gg_181 : GG 181 = (⟨"RegionHouse$Regions", "reached", "(II)I"⟩, prog_10_method_9_code, []) := rfl
theorem gg_182 : GG 182 = (⟨"RegionHouse$Printer", "<init>", "(LRegionHouse$Lexemes;LRegionHouse$Program;LRegionHouse$Types;LRegionHouse$Typing;LRegionHouse$Regions;LRegionHouse$Signs;)V"⟩, prog_7_method_1_code, []) := rfl
theorem gg_183 : GG 183 = (⟨"RegionHouse$Printer", "annotate", "()V"⟩, prog_7_method_4_code, []) := rfl
theorem gg_184 : GG 184 = (⟨"RegionHouse$Printer", "note", "(I)V"⟩, prog_7_method_5_code, []) := rfl
theorem gg_185 : GG 185 = (⟨"RegionHouse$Printer", "hasOwn", "(I)Z"⟩, prog_7_method_3_code, []) := rfl
theorem gg_186 : GG 186 = (⟨"RegionHouse$Printer", "lexeme", "(I)V"⟩, prog_7_method_6_code, []) := rfl
theorem gg_187 : GG 187 = (⟨"RegionHouse$Printer", "owned", "(Ljava/lang/String;I)V"⟩, prog_7_method_7_code, []) := rfl
theorem gg_188 : GG 188 = (⟨"RegionHouse$Printer", "next", "()V"⟩, prog_7_method_2_code, []) := rfl
theorem gg_189 : GG 189 = (⟨"RegionHouse$Printer", "listed", "(ZI)Z"⟩, prog_7_method_8_code, []) := rfl
theorem gg_190 : GG 190 = (⟨"RegionHouse$Printer", "noted", "(I)V"⟩, prog_7_method_9_code, []) := rfl
theorem gg_191 : GG 191 = (⟨"RegionHouse$Printer", "handed", "(I)V"⟩, prog_7_method_10_code, []) := rfl
theorem gg_192 : GG 192 = (⟨"RegionHouse$Printer", "signature", "(I)V"⟩, prog_7_method_11_code, []) := rfl
theorem gg_193 : GG 193 = (⟨"RegionHouse$Printer", "type", "(I)V"⟩, prog_7_method_12_code, []) := rfl
theorem gg_194 : GG 194 = (⟨"RegionHouse$Printer", "unknown", "(I)V"⟩, prog_7_method_13_code, []) := rfl
theorem gg_195 : GG 195 = (⟨"RegionHouse$Code", "<init>", "(LRegionHouse$Program;LRegionHouse$Typing;LRegionHouse$Regions;)V"⟩, prog_2_method_1_code, []) := rfl
theorem gg_196 : GG 196 = (⟨"RegionHouse$Code", "words", "(I)I"⟩, prog_2_method_6_code, []) := rfl
theorem gg_197 : GG 197 = (⟨"RegionHouse$Code", "make", "()V"⟩, prog_2_method_11_code, []) := rfl
theorem gg_198 : GG 198 = (⟨"RegionHouse$Code", "part", "(II)V"⟩, prog_2_method_13_code, []) := rfl
theorem gg_199 : GG 199 = (⟨"RegionHouse$Code", "put", "(I)V"⟩, prog_2_method_7_code, []) := rfl
theorem gg_200 : GG 200 = (⟨"RegionHouse$Code", "put", "(II)V"⟩, prog_2_method_8_code, []) := rfl
theorem gg_201 : GG 201 = (⟨"RegionHouse$Code", "inner", "(II)V"⟩, prog_2_method_16_code, []) := rfl
theorem gg_202 : GG 202 = (⟨"RegionHouse$Code", "variable", "(I)V"⟩, prog_2_method_15_code, []) := rfl
theorem gg_203 : GG 203 = (⟨"RegionHouse$Code", "call", "(II)V"⟩, prog_2_method_19_code, []) := rfl
theorem gg_204 : GG 204 = (⟨"RegionHouse$Code", "two", "(III)V"⟩, prog_2_method_14_code, []) := rfl
theorem gg_205 : GG 205 = (⟨"RegionHouse$Code", "number", "(I)I"⟩, prog_2_method_12_code, []) := rfl
theorem gg_206 : GG 206 = (⟨"RegionHouse$Code", "closure", "(I)V"⟩, prog_2_method_20_code, []) := rfl
theorem gg_207 : GG 207 = (⟨"RegionHouse$Code", "choice", "(II)V"⟩, prog_2_method_17_code, []) := rfl
theorem gg_208 : GG 208 = (⟨"RegionHouse$Code", "gap", "(I)I"⟩, prog_2_method_9_code, []) := rfl
theorem gg_209 : GG 209 = (⟨"RegionHouse$Code", "fill", "(I)V"⟩, prog_2_method_10_code, []) := rfl
theorem gg_210 : GG 210 = (⟨"RegionHouse$Code", "cases", "(II)V"⟩, prog_2_method_18_code, []) := rfl
theorem gg_211 : GG 211 = (⟨"RegionHouse$Code", "entry", "(I)I"⟩, prog_2_method_3_code, []) := rfl
theorem gg_212 : GG 212 = (⟨"RegionHouse$Code", "at", "(I)I"⟩, prog_2_method_2_code, []) := rfl
theorem gg_213 : GG 213 = (⟨"RegionHouse$Code", "fnFunction", "(I)I"⟩, prog_2_method_5_code, []) := rfl
theorem gg_214 : GG 214 = (⟨"RegionHouse$Code", "fnEntry", "(I)I"⟩, prog_2_method_4_code, []) := rfl
theorem gg_215 : GG 215 = (⟨"RegionHouse$Stack", "<init>", "()V"⟩, prog_12_method_1_code, []) := rfl
theorem gg_216 : GG 216 = (⟨"RegionHouse$Stack", "clear", "()V"⟩, prog_12_method_3_code, []) := rfl
theorem gg_217 : GG 217 = (⟨"RegionHouse$Stack", "size", "()I"⟩, prog_12_method_2_code, []) := rfl
theorem gg_218 : GG 218 = (⟨"RegionHouse$Stack", "sort", "(I)I"⟩, prog_12_method_8_code, []) := rfl
theorem gg_219 : GG 219 = (⟨"RegionHouse$Stack", "value", "(I)I"⟩, prog_12_method_7_code, []) := rfl
theorem gg_220 : GG 220 = (⟨"RegionHouse$Stack", "set", "(III)V"⟩, prog_12_method_6_code, []) := rfl
theorem gg_221 : GG 221 = (⟨"RegionHouse$Stack", "isFull", "()Z"⟩, prog_12_method_4_code, []) := rfl
theorem gg_222 : GG 222 = (⟨"RegionHouse$Stack", "push", "(II)V"⟩, prog_12_method_5_code, []) := rfl
theorem gg_223 : GG 223 = (⟨"RegionHouse$Stack", "drop", "(I)V"⟩, prog_12_method_10_code, []) := rfl
theorem gg_224 : GG 224 = (⟨"RegionHouse$Stack", "slide", "(I)V"⟩, prog_12_method_9_code, []) := rfl
theorem gg_225 : GG 225 = (⟨"RegionHouse$Pool", "<init>", "(LRegionHouse$Stack;LRegionHouse$Code;)V"⟩, prog_6_method_1_code, []) := rfl
theorem gg_226 : GG 226 = (⟨"RegionHouse$Pool", "release", "()V"⟩, prog_6_method_3_code, []) := rfl
theorem gg_227 : GG 227 = (⟨"RegionHouse$Pool", "begin", "()V"⟩, prog_6_method_4_code, []) := rfl
theorem gg_228 : GG 228 = (⟨"RegionHouse$Pool", "size", "(II)V"⟩, prog_6_method_2_code, []) := rfl
theorem gg_229 : GG 229 = (⟨"RegionHouse$Pool", "count", "(I)I"⟩, prog_6_method_24_code, []) := rfl
theorem gg_230 : GG 230 = (⟨"RegionHouse$Pool", "there", "(II)I"⟩, prog_6_method_25_code, []) := rfl
theorem gg_231 : GG 231 = (⟨"RegionHouse$Pool", "collect", "()Z"⟩, prog_6_method_20_code, []) := rfl
theorem gg_232 : GG 232 = (⟨"RegionHouse$Pool", "clear", "(I)V"⟩, prog_6_method_7_code, []) := rfl
theorem gg_233 : GG 233 = (⟨"RegionHouse$Pool", "moved", "(I)I"⟩, prog_6_method_22_code, []) := rfl
theorem gg_234 : GG 234 = (⟨"RegionHouse$Pool", "sizeOf", "(I)I"⟩, prog_6_method_17_code, []) := rfl
theorem gg_235 : GG 235 = (⟨"RegionHouse$Pool", "fits", "(II)Z"⟩, prog_6_method_11_code, []) := rfl
theorem gg_236 : GG 236 = (⟨"RegionHouse$Pool", "take", "(I)V"⟩, prog_6_method_10_code, []) := rfl
theorem gg_237 : GG 237 = (⟨"RegionHouse$Pool", "place", "(II)I"⟩, prog_6_method_12_code, []) := rfl
theorem gg_238 : GG 238 = (⟨"RegionHouse$Pool", "set", "(III)V"⟩, prog_6_method_14_code, []) := rfl
theorem gg_239 : GG 239 = (⟨"RegionHouse$Pool", "scan", "(I)Z"⟩, prog_6_method_21_code, []) := rfl
theorem gg_240 : GG 240 = (⟨"RegionHouse$Pool", "giveBack", "(I)V"⟩, prog_6_method_9_code, []) := rfl
theorem gg_241 : GG 241 = (⟨"RegionHouse$Pool", "queued", "()I"⟩, prog_6_method_23_code, []) := rfl
theorem gg_242 : GG 242 = (⟨"RegionHouse$Pool", "make", "(II)I"⟩, prog_6_method_6_code, []) := rfl
theorem gg_243 : GG 243 = (⟨"RegionHouse$Pool", "isFull", "()Z"⟩, prog_6_method_5_code, []) := rfl
theorem gg_244 : GG 244 = (⟨"RegionHouse$Pool", "leave", "(I)V"⟩, prog_6_method_8_code, []) := rfl
theorem gg_245 : GG 245 = (⟨"RegionHouse$Pool", "word", "(I)I"⟩, prog_6_method_15_code, []) := rfl
theorem gg_246 : GG 246 = (⟨"RegionHouse$Pool", "sort", "(I)I"⟩, prog_6_method_16_code, []) := rfl
theorem gg_247 : GG 247 = (⟨"RegionHouse$Pool", "put", "(III)I"⟩, prog_6_method_13_code, []) := rfl
theorem gg_248 : GG 248 = (⟨"RegionHouse$Pool", "collectOnce", "()Z"⟩, prog_6_method_18_code, []) := rfl
theorem gg_249 : GG 249 = (⟨"RegionHouse$Pool", "isWorn", "()Z"⟩, prog_6_method_19_code, []) := rfl
theorem gg_250 : GG 250 = (⟨"RegionHouse$Machine", "<init>", "(LRegionHouse$Program;LRegionHouse$Regions;LRegionHouse$Code;LRegionHouse$Stack;LRegionHouse$Pool;)V"⟩, prog_5_method_1_code, []) := rfl
theorem gg_251 : GG 251 = (⟨"RegionHouse$Machine", "stop", "()V"⟩, prog_5_method_4_code, []) := rfl
theorem gg_252 : GG 252 = (⟨"RegionHouse$Machine", "end", "(I)V"⟩, prog_5_method_5_code, []) := rfl
theorem gg_253 : GG 253 = (⟨"RegionHouse$Machine", "every", "(I)V"⟩, prog_5_method_3_code, []) := rfl
theorem gg_254 : GG 254 = (⟨"RegionHouse$Machine", "state", "()I"⟩, prog_5_method_2_code, []) := rfl
theorem gg_255 : GG 255 = (⟨"RegionHouse$Machine", "count", "(I)I"⟩, prog_5_method_28_code, []) := rfl
theorem gg_256 : GG 256 = (⟨"RegionHouse$Machine", "collect", "()I"⟩, prog_5_method_27_code, []) := rfl
theorem gg_257 : GG 257 = (⟨"RegionHouse$Machine", "isThere", "()Z"⟩, prog_5_method_26_code, []) := rfl
theorem gg_258 : GG 258 = (⟨"RegionHouse$Machine", "begin", "()V"⟩, prog_5_method_6_code, []) := rfl
theorem gg_259 : GG 259 = (⟨"RegionHouse$Machine", "make", "(I)V"⟩, prog_5_method_7_code, []) := rfl
theorem gg_260 : GG 260 = (⟨"RegionHouse$Machine", "go", "(I)I"⟩, prog_5_method_9_code, []) := rfl
theorem gg_261 : GG 261 = (⟨"RegionHouse$Machine", "next", "()I"⟩, prog_5_method_8_code, []) := rfl
theorem gg_262 : GG 262 = (⟨"RegionHouse$Machine", "perform", "(I)V"⟩, prog_5_method_14_code, []) := rfl
theorem gg_263 : GG 263 = (⟨"RegionHouse$Machine", "push", "(II)V"⟩, prog_5_method_10_code, []) := rfl
theorem gg_264 : GG 264 = (⟨"RegionHouse$Machine", "copy", "(I)V"⟩, prog_5_method_12_code, []) := rfl
theorem gg_265 : GG 265 = (⟨"RegionHouse$Machine", "load", "(I)V"⟩, prog_5_method_13_code, []) := rfl
theorem gg_266 : GG 266 = (⟨"RegionHouse$Machine", "two", "(I)V"⟩, prog_5_method_18_code, []) := rfl
theorem gg_267 : GG 267 = (⟨"RegionHouse$Machine", "room", "(II)I"⟩, prog_5_method_17_code, []) := rfl
theorem gg_268 : GG 268 = (⟨"RegionHouse$Machine", "top", "()I"⟩, prog_5_method_11_code, []) := rfl
theorem gg_269 : GG 269 = (⟨"RegionHouse$Machine", "closure", "()V"⟩, prog_5_method_20_code, []) := rfl
theorem gg_270 : GG 270 = (⟨"RegionHouse$Machine", "part", "(I)V"⟩, prog_5_method_19_code, []) := rfl
theorem gg_271 : GG 271 = (⟨"RegionHouse$Machine", "cases", "(I)V"⟩, prog_5_method_21_code, []) := rfl
theorem gg_272 : GG 272 = (⟨"RegionHouse$Machine", "call", "(I)V"⟩, prog_5_method_23_code, []) := rfl
theorem gg_273 : GG 273 = (⟨"RegionHouse$Machine", "enter", "()I"⟩, prog_5_method_22_code, []) := rfl
theorem gg_274 : GG 274 = (⟨"RegionHouse$Machine", "apply", "()V"⟩, prog_5_method_24_code, []) := rfl
theorem gg_275 : GG 275 = (⟨"RegionHouse$Machine", "back", "()V"⟩, prog_5_method_25_code, []) := rfl
theorem gg_276 : GG 276 = (⟨"RegionHouse$Machine", "reckon", "(I)V"⟩, prog_5_method_15_code, []) := rfl
theorem gg_277 : GG 277 = (⟨"RegionHouse$Machine", "result", "(III)I"⟩, prog_5_method_16_code, []) := rfl
theorem gg_278 : GG 278 = (⟨"RegionHouse$Machine", "show", "(LRegionHouse$Signs;)V"⟩, prog_5_method_29_code, []) := rfl
theorem gg_279 : GG 279 = (⟨"RegionHouse$Machine", "value", "(IILRegionHouse$Signs;)V"⟩, prog_5_method_30_code, []) := rfl
theorem gg_280 : GG 280 = (⟨"RegionHouse$Machine", "list", "(IILRegionHouse$Signs;)V"⟩, prog_5_method_31_code, []) := rfl
theorem gg_281 : GG 281 = (⟨"RegionHouseModel", "<init>", "()V"⟩, prog_16_method_1_code, []) := rfl
theorem gg_282 : GG 282 = (⟨"RegionHouseModel", "thrown", "()I"⟩, prog_16_method_2_code, []) := rfl
theorem gg_283 : GG 283 = (⟨"RegionHouseModel", "type", "(J)I"⟩, prog_16_method_5_code, []) := rfl
theorem gg_284 : GG 284 = (⟨"RegionHouseModel", "compile", "()I"⟩, prog_16_method_90_code, []) := rfl
theorem gg_285 : GG 285 = (⟨"RegionHouseModel", "cut", "()V"⟩, prog_16_method_17_code, []) := rfl
theorem gg_286 : GG 286 = (⟨"RegionHouseModel", "isSmall", "(I)Z"⟩, prog_16_method_7_code, []) := rfl
theorem gg_287 : GG 287 = (⟨"RegionHouseModel", "within", "(III)Z"⟩, prog_16_method_4_code, []) := rfl
theorem gg_288 : GG 288 = (⟨"RegionHouseModel", "sign", "(I)I"⟩, prog_16_method_9_code, []) := rfl
theorem gg_289 : GG 289 = (⟨"RegionHouseModel", "isDigit", "(I)Z"⟩, prog_16_method_8_code, []) := rfl
theorem gg_290 : GG 290 = (⟨"RegionHouseModel", "addName", "(II)V"⟩, prog_16_method_14_code, []) := rfl
theorem gg_291 : GG 291 = (⟨"RegionHouseModel", "fail", "(II)V"⟩, prog_16_method_6_code, []) := rfl
theorem gg_292 : GG 292 = (⟨"RegionHouseModel", "wordOf", "(I)Ljava/lang/String;"⟩, prog_16_method_11_code, []) := rfl
theorem gg_293 : GG 293 = (⟨"RegionHouseModel", "isWord", "(Ljava/lang/String;II)Z"⟩, prog_16_method_10_code, []) := rfl
theorem gg_294 : GG 294 = (⟨"RegionHouseModel", "add", "(IIII)V"⟩, prog_16_method_12_code, []) := rfl
theorem gg_295 : GG 295 = (⟨"RegionHouseModel", "nameOf", "(II)I"⟩, prog_16_method_13_code, []) := rfl
theorem gg_296 : GG 296 = (⟨"RegionHouseModel", "addNumber", "(II)V"⟩, prog_16_method_15_code, []) := rfl
theorem gg_297 : GG 297 = (⟨"RegionHouseModel", "signKind", "(I)I"⟩, prog_16_method_16_code, []) := rfl
theorem gg_298 : GG 298 = (⟨"RegionHouseModel", "readProgram", "()V"⟩, prog_16_method_49_code, []) := rfl
theorem gg_299 : GG 299 = (⟨"RegionHouseModel", "kind", "()I"⟩, prog_16_method_18_code, []) := rfl
theorem gg_300 : GG 300 = (⟨"RegionHouseModel", "readFunction", "()V"⟩, prog_16_method_47_code, []) := rfl
theorem gg_301 : GG 301 = (⟨"RegionHouseModel", "beginScopes", "()V"⟩, prog_16_method_46_code, []) := rfl
theorem gg_302 : GG 302 = (⟨"RegionHouseModel", "functionOf", "(I)I"⟩, prog_16_method_25_code, []) := rfl
theorem gg_303 : GG 303 = (⟨"RegionHouseModel", "take", "(I)Z"⟩, prog_16_method_23_code, []) := rfl
theorem gg_304 : GG 304 = (⟨"RegionHouseModel", "takeParameter", "(I)I"⟩, prog_16_method_48_code, []) := rfl
theorem gg_305 : GG 305 = (⟨"RegionHouseModel", "variableOf", "(I)I"⟩, prog_16_method_24_code, []) := rfl
theorem gg_306 : GG 306 = (⟨"RegionHouseModel", "takeVariable", "()I"⟩, prog_16_method_26_code, []) := rfl
theorem gg_307 : GG 307 = (⟨"RegionHouseModel", "open", "(I)V"⟩, prog_16_method_27_code, []) := rfl
theorem gg_308 : GG 308 = (⟨"RegionHouseModel", "readBody", "(I)V"⟩, prog_16_method_45_code, []) := rfl
theorem gg_309 : GG 309 = (⟨"RegionHouseModel", "push", "(III)V"⟩, prog_16_method_19_code, []) := rfl
theorem gg_310 : GG 310 = (⟨"RegionHouseModel", "readNext", "()V"⟩, prog_16_method_44_code, []) := rfl
theorem gg_311 : GG 311 = (⟨"RegionHouseModel", "readE", "()V"⟩, prog_16_method_29_code, []) := rfl
theorem gg_312 : GG 312 = (⟨"RegionHouseModel", "readAtom", "()V"⟩, prog_16_method_33_code, []) := rfl
theorem gg_313 : GG 313 = (⟨"RegionHouseModel", "part", "(III)I"⟩, prog_16_method_21_code, []) := rfl
theorem gg_314 : GG 314 = (⟨"RegionHouseModel", "hold", "(III)V"⟩, prog_16_method_20_code, []) := rfl
theorem gg_315 : GG 315 = (⟨"RegionHouseModel", "readName", "()V"⟩, prog_16_method_32_code, []) := rfl
theorem gg_316 : GG 316 = (⟨"RegionHouseModel", "readOn", "(I)V"⟩, prog_16_method_36_code, []) := rfl
theorem gg_317 : GG 317 = (⟨"RegionHouseModel", "readSign", "(II)V"⟩, prog_16_method_35_code, []) := rfl
theorem gg_318 : GG 318 = (⟨"RegionHouseModel", "isAtom", "()Z"⟩, prog_16_method_34_code, []) := rfl
theorem gg_319 : GG 319 = (⟨"RegionHouseModel", "readCaseNames", "(I)V"⟩, prog_16_method_30_code, []) := rfl
theorem gg_320 : GG 320 = (⟨"RegionHouseModel", "takeSecond", "()I"⟩, prog_16_method_31_code, []) := rfl
theorem gg_321 : GG 321 = (⟨"RegionHouseModel", "readBehindE", "(I)V"⟩, prog_16_method_37_code, []) := rfl
theorem gg_322 : GG 322 = (⟨"RegionHouseModel", "readArguments", "(II)V"⟩, prog_16_method_38_code, []) := rfl
theorem gg_323 : GG 323 = (⟨"RegionHouseModel", "under", "(II)V"⟩, prog_16_method_22_code, []) := rfl
theorem gg_324 : GG 324 = (⟨"RegionHouseModel", "act", "(III)V"⟩, prog_16_method_42_code, []) := rfl
theorem gg_325 : GG 325 = (⟨"RegionHouseModel", "two", "(I)I"⟩, prog_16_method_40_code, []) := rfl
theorem gg_326 : GG 326 = (⟨"RegionHouseModel", "child", "(I)I"⟩, prog_16_method_39_code, []) := rfl
theorem gg_327 : GG 327 = (⟨"RegionHouseModel", "becomes", "(II)V"⟩, prog_16_method_41_code, []) := rfl
theorem gg_328 : GG 328 = (⟨"RegionHouseModel", "close", "(I)V"⟩, prog_16_method_28_code, []) := rfl
theorem gg_329 : GG 329 = (⟨"RegionHouseModel", "actThree", "(III)V"⟩, prog_16_method_43_code, []) := rfl
theorem gg_330 : GG 330 = (⟨"RegionHouseModel", "checkDepth", "()V"⟩, prog_16_method_50_code, []) := rfl
theorem gg_331 : GG 331 = (⟨"RegionHouseModel", "newType", "(III)I"⟩, prog_16_method_51_code, []) := rfl
theorem gg_332 : GG 332 = (⟨"RegionHouseModel", "typesOf", "(I)V"⟩, prog_16_method_68_code, []) := rfl
theorem gg_333 : GG 333 = (⟨"RegionHouseModel", "unknown", "()I"⟩, prog_16_method_53_code, []) := rfl
theorem gg_334 : GG 334 = (⟨"RegionHouseModel", "typeOf", "(II)I"⟩, prog_16_method_65_code, []) := rfl
theorem gg_335 : GG 335 = (⟨"RegionHouseModel", "firstCopy", "(I)I"⟩, prog_16_method_64_code, []) := rfl
theorem gg_336 : GG 336 = (⟨"RegionHouseModel", "copyOf", "(I)I"⟩, prog_16_method_61_code, []) := rfl
theorem gg_337 : GG 337 = (⟨"RegionHouseModel", "find", "(I)I"⟩, prog_16_method_52_code, []) := rfl
theorem gg_338 : GG 338 = (⟨"RegionHouseModel", "seen", "(I)I"⟩, prog_16_method_62_code, []) := rfl
theorem gg_339 : GG 339 = (⟨"RegionHouseModel", "meet", "(II)I"⟩, prog_16_method_63_code, []) := rfl
theorem gg_340 : GG 340 = (⟨"RegionHouseModel", "wants", "(II)Z"⟩, prog_16_method_66_code, []) := rfl
theorem gg_341 : GG 341 = (⟨"RegionHouseModel", "alike", "(II)Z"⟩, prog_16_method_58_code, []) := rfl
theorem gg_342 : GG 342 = (⟨"RegionHouseModel", "standsIn", "(II)Z"⟩, prog_16_method_57_code, []) := rfl
theorem gg_343 : GG 343 = (⟨"RegionHouseModel", "meets", "(II)I"⟩, prog_16_method_73_code, []) := rfl
theorem gg_344 : GG 344 = (⟨"RegionHouseModel", "joinHolds", "(II)V"⟩, prog_16_method_60_code, []) := rfl
theorem gg_345 : GG 345 = (⟨"RegionHouseModel", "markHeld", "(I)V"⟩, prog_16_method_54_code, []) := rfl
theorem gg_346 : GG 346 = (⟨"RegionHouseModel", "ring", "(I)Z"⟩, prog_16_method_59_code, []) := rfl
theorem gg_347 : GG 347 = (⟨"RegionHouseModel", "wanted", "(III)I"⟩, prog_16_method_67_code, []) := rfl
theorem gg_348 : GG 348 = (⟨"RegionHouseModel", "regionsOf", "(I)V"⟩, prog_16_method_85_code, []) := rfl
theorem gg_349 : GG 349 = (⟨"RegionHouseModel", "numberAll", "(I)V"⟩, prog_16_method_71_code, []) := rfl
theorem gg_350 : GG 350 = (⟨"RegionHouseModel", "isPut", "(I)Z"⟩, prog_16_method_70_code, []) := rfl
theorem gg_351 : GG 351 = (⟨"RegionHouseModel", "number", "(I)V"⟩, prog_16_method_69_code, []) := rfl
theorem gg_352 : GG 352 = (⟨"RegionHouseModel", "gatherBits", "(I)V"⟩, prog_16_method_74_code, []) := rfl
theorem gg_353 : GG 353 = (⟨"RegionHouseModel", "reach", "(I[JI)I"⟩, prog_16_method_72_code, []) := rfl
theorem gg_354 : GG 354 = (⟨"RegionHouseModel", "spread", "(II)I"⟩, prog_16_method_55_code, []) := rfl
theorem gg_355 : GG 355 = (⟨"RegionHouseModel", "findOwn", "(I)V"⟩, prog_16_method_76_code, []) := rfl
theorem gg_356 : GG 356 = (⟨"RegionHouseModel", "own", "(III)V"⟩, prog_16_method_77_code, []) := rfl
theorem gg_357 : GG 357 = (⟨"RegionHouseModel", "tight", "(III)I"⟩, prog_16_method_75_code, []) := rfl
theorem gg_358 : GG 358 = (⟨"RegionHouseModel", "holdOf", "(II)Z"⟩, prog_16_method_80_code, []) := rfl
theorem gg_359 : GG 359 = (⟨"RegionHouseModel", "isAround", "(II)Z"⟩, prog_16_method_79_code, []) := rfl
theorem gg_360 : GG 360 = (⟨"RegionHouseModel", "addHeld", "(II)Z"⟩, prog_16_method_56_code, []) := rfl
theorem gg_361 : GG 361 = (⟨"RegionHouseModel", "isKept", "(II)Z"⟩, prog_16_method_78_code, []) := rfl
theorem gg_362 : GG 362 = (⟨"RegionHouseModel", "holdOfCall", "(IIII)Z"⟩, prog_16_method_81_code, []) := rfl
theorem gg_363 : GG 363 = (⟨"RegionHouseModel", "least24", "(I)I"⟩, prog_16_method_82_code, []) := rfl
theorem gg_364 : GG 364 = (⟨"RegionHouseModel", "signs", "(I)V"⟩, prog_16_method_83_code, []) := rfl
theorem gg_365 : GG 365 = (⟨"RegionHouseModel", "heldBy", "(I)I"⟩, prog_16_method_84_code, []) := rfl
theorem gg_366 : GG 366 = (⟨"RegionHouseModel", "keepRegions", "(I)V"⟩, prog_16_method_86_code, []) := rfl
theorem gg_367 : GG 367 = (⟨"RegionHouseModel", "keepOf", "(II)V"⟩, prog_16_method_87_code, []) := rfl
theorem gg_368 : GG 368 = (⟨"RegionHouseModel", "putMany", "(II)I"⟩, prog_16_method_88_code, []) := rfl
theorem gg_369 : GG 369 = (⟨"RegionHouseModel", "putNumber", "(III)I"⟩, prog_16_method_89_code, []) := rfl
theorem gg_370 : GG 370 = (⟨"RegionHouseModel", "goes", "(ZZ)Z"⟩, prog_16_method_3_code, []) := rfl
theorem gg_371 : GG 371 = (⟨"RegionHouseModel", "fault", "(I)I"⟩, prog_16_method_91_code, []) := rfl
theorem gg_372 : GG 372 = (⟨"RegionHouseModel", "annotate", "()I"⟩, prog_16_method_100_code, []) := rfl
theorem gg_373 : GG 373 = (⟨"RegionHouseModel", "putLexeme", "(II)V"⟩, prog_16_method_101_code, []) := rfl
theorem gg_374 : GG 374 = (⟨"RegionHouseModel", "putOwn", "(IILjava/lang/String;)V"⟩, prog_16_method_96_code, []) := rfl
theorem gg_375 : GG 375 = (⟨"RegionHouseModel", "blank", "()V"⟩, prog_16_method_95_code, []) := rfl
theorem gg_376 : GG 376 = (⟨"RegionHouseModel", "put", "(I)V"⟩, prog_16_method_92_code, []) := rfl
theorem gg_377 : GG 377 = (⟨"RegionHouseModel", "putWord", "(Ljava/lang/String;)V"⟩, prog_16_method_94_code, []) := rfl
theorem gg_378 : GG 378 = (⟨"RegionHouseModel", "putNumber", "(J)V"⟩, prog_16_method_93_code, []) := rfl
theorem gg_379 : GG 379 = (⟨"RegionHouseModel", "putGets", "(I)V"⟩, prog_16_method_98_code, []) := rfl
theorem gg_380 : GG 380 = (⟨"RegionHouseModel", "putOf", "(II)V"⟩, prog_16_method_99_code, []) := rfl
theorem gg_381 : GG 381 = (⟨"RegionHouseModel", "numberOfPart", "(I)I"⟩, prog_16_method_97_code, []) := rfl
theorem gg_382 : GG 382 = (⟨"RegionHouseModel", "signature", "(I)I"⟩, prog_16_method_107_code, []) := rfl
theorem gg_383 : GG 383 = (⟨"RegionHouseModel", "isFunction", "(I)Z"⟩, prog_16_method_102_code, []) := rfl
theorem gg_384 : GG 384 = (⟨"RegionHouseModel", "putType", "(I)V"⟩, prog_16_method_105_code, []) := rfl
theorem gg_385 : GG 385 = (⟨"RegionHouseModel", "task", "(I)V"⟩, prog_16_method_104_code, []) := rfl
theorem gg_386 : GG 386 = (⟨"RegionHouseModel", "putUnknown", "(I)V"⟩, prog_16_method_103_code, []) := rfl
theorem gg_387 : GG 387 = (⟨"RegionHouseModel", "putMade", "(I)V"⟩, prog_16_method_106_code, []) := rfl
theorem gg_388 : GG 388 = (⟨"RegionHouseModel", "letter", "(I)I"⟩, prog_16_method_108_code, []) := rfl
theorem gg_389 : GG 389 = (⟨"RegionHouseModel", "again", "()I"⟩, prog_16_method_109_code, []) := rfl
theorem gg_390 : GG 390 = (⟨"RegionHouseModel", "function", "(II)I"⟩, prog_16_method_110_code, []) := rfl
theorem gg_391 : GG 391 = (⟨"RegionHouseModel", "region", "(III)I"⟩, prog_16_method_111_code, []) := rfl
theorem gg_392 : GG 392 = (⟨"RegionHouseModel", "pool", "(II)Z"⟩, prog_16_method_112_code, []) := rfl
theorem gg_393 : GG 393 = (⟨"RegionHouseModel", "every", "(I)Z"⟩, prog_16_method_113_code, []) := rfl
theorem gg_394 : GG 394 = (⟨"RegionHouseModel", "begin", "()V"⟩, prog_16_method_127_code, []) := rfl
theorem gg_395 : GG 395 = (⟨"RegionHouseModel", "end", "(I)V"⟩, prog_16_method_114_code, []) := rfl
theorem gg_396 : GG 396 = (⟨"RegionHouseModel", "makeRegion", "(II)Z"⟩, prog_16_method_117_code, []) := rfl
theorem gg_397 : GG 397 = (⟨"RegionHouseModel", "plan", "(III)V"⟩, prog_16_method_115_code, []) := rfl
theorem gg_398 : GG 398 = (⟨"RegionHouseModel", "go", "(I)I"⟩, prog_16_method_128_code, []) := rfl
theorem gg_399 : GG 399 = (⟨"RegionHouseModel", "goOn", "(III)V"⟩, prog_16_method_135_code, []) := rfl
theorem gg_400 : GG 400 = (⟨"RegionHouseModel", "makeTwo", "(II)V"⟩, prog_16_method_133_code, []) := rfl
theorem gg_401 : GG 401 = (⟨"RegionHouseModel", "regionOf", "(I)I"⟩, prog_16_method_126_code, []) := rfl
theorem gg_402 : GG 402 = (⟨"RegionHouseModel", "make", "(IIII)I"⟩, prog_16_method_124_code, []) := rfl
theorem gg_403 : GG 403 = (⟨"RegionHouseModel", "collectOwn", "()Z"⟩, prog_16_method_121_code, []) := rfl
theorem gg_404 : GG 404 = (⟨"RegionHouseModel", "collectNow", "()Z"⟩, prog_16_method_120_code, []) := rfl
theorem gg_405 : GG 405 = (⟨"RegionHouseModel", "meetObject", "(III)I"⟩, prog_16_method_119_code, []) := rfl
theorem gg_406 : GG 406 = (⟨"RegionHouseModel", "isStray", "(I)Z"⟩, prog_16_method_118_code, []) := rfl
theorem gg_407 : GG 407 = (⟨"RegionHouseModel", "fits", "(II)Z"⟩, prog_16_method_122_code, []) := rfl
theorem gg_408 : GG 408 = (⟨"RegionHouseModel", "tidy", "()V"⟩, prog_16_method_123_code, []) := rfl
theorem gg_409 : GG 409 = (⟨"RegionHouseModel", "fill", "(II)V"⟩, prog_16_method_125_code, []) := rfl
theorem gg_410 : GG 410 = (⟨"RegionHouseModel", "reckon", "(I)V"⟩, prog_16_method_134_code, []) := rfl
theorem gg_411 : GG 411 = (⟨"RegionHouseModel", "takeOf", "(I)V"⟩, prog_16_method_136_code, []) := rfl
theorem gg_412 : GG 412 = (⟨"RegionHouseModel", "caseOn", "(I)V"⟩, prog_16_method_137_code, []) := rfl
theorem gg_413 : GG 413 = (⟨"RegionHouseModel", "value", "(II)Z"⟩, prog_16_method_116_code, []) := rfl
theorem gg_414 : GG 414 = (⟨"RegionHouseModel", "callOn", "(I)V"⟩, prog_16_method_139_code, []) := rfl
theorem gg_415 : GG 415 = (⟨"RegionHouseModel", "goesDown", "(I)Z"⟩, prog_16_method_138_code, []) := rfl
theorem gg_416 : GG 416 = (⟨"RegionHouseModel", "applyOn", "(I)V"⟩, prog_16_method_140_code, []) := rfl
theorem gg_417 : GG 417 = (⟨"RegionHouseModel", "endPart", "(II)V"⟩, prog_16_method_141_code, []) := rfl
theorem gg_418 : GG 418 = (⟨"RegionHouseModel", "beginPart", "(I)V"⟩, prog_16_method_129_code, []) := rfl
theorem gg_419 : GG 419 = (⟨"RegionHouseModel", "pushVariable", "(I)V"⟩, prog_16_method_131_code, []) := rfl
theorem gg_420 : GG 420 = (⟨"RegionHouseModel", "lookUp", "(I)V"⟩, prog_16_method_130_code, []) := rfl
theorem gg_421 : GG 421 = (⟨"RegionHouseModel", "makeClosure", "(I)V"⟩, prog_16_method_132_code, []) := rfl
theorem gg_422 : GG 422 = (⟨"RegionHouseModel", "state", "()I"⟩, prog_16_method_142_code, []) := rfl
theorem gg_423 : GG 423 = (⟨"RegionHouseModel", "count", "(I)I"⟩, prog_16_method_143_code, []) := rfl
theorem gg_424 : GG 424 = (⟨"RegionHouseModel", "there", "(II)I"⟩, prog_16_method_144_code, []) := rfl
theorem gg_425 : GG 425 = (⟨"RegionHouseModel", "strays", "()I"⟩, prog_16_method_145_code, []) := rfl
theorem gg_426 : GG 426 = (⟨"RegionHouseModel", "collect", "()I"⟩, prog_16_method_146_code, []) := rfl
theorem gg_427 : GG 427 = (⟨"RegionHouseModel", "show", "()I"⟩, prog_16_method_148_code, []) := rfl
theorem gg_428 : GG 428 = (⟨"RegionHouseModel", "toShow", "(II)V"⟩, prog_16_method_147_code, []) := rfl
theorem gg_429 : GG 429 = (⟨"RegionHouseModel", "showObject", "(I)V"⟩, prog_16_method_149_code, []) := rfl
theorem gg_430 : GG 430 = (⟨"RegionHouseModel", "showRest", "(II)V"⟩, prog_16_method_150_code, []) := rfl
theorem gg_431 : GG 431 = (⟨"java/lang/String", "length", "()I"⟩, prog_25_method_54_code, []) := rfl
theorem gg_432 : GG 432 = (⟨"java/lang/String", "coder", "()B"⟩, prog_25_method_152_code, []) := rfl
theorem gg_433 : GG 433 = (⟨"java/lang/String", "charAt", "(I)C"⟩, prog_25_method_56_code, []) := rfl
theorem gg_434 : GG 434 = (⟨"java/lang/String", "isLatin1", "()Z"⟩, prog_25_method_154_code, []) := rfl
theorem gg_435 : GG 435 = (⟨"java/lang/String", "checkIndex", "(II)V"⟩, prog_25_method_155_code, []) := rfl
theorem gg_436 : GG 436 = (⟨"java/lang/StringLatin1", "charAt", "([BI)C"⟩, prog_26_method_2_code, []) := rfl
theorem gg_437 : GG 437 = (⟨"jdk/internal/util/Preconditions", "checkIndex", "(IILjava/util/function/BiFunction;)I"⟩, prog_32_method_11_code, []) := rfl
theorem gg_438 : GG 438 = (⟨"java/lang/Math", "max", "(II)I"⟩, prog_23_method_65_code, []) := rfl
theorem gg_439 : GG 439 = (⟨"java/lang/Math", "min", "(II)I"⟩, prog_23_method_69_code, []) := rfl
theorem gg_440 : GG 440 = (⟨"java/util/Arrays", "copyOf", "([II)[I"⟩, prog_31_method_123_code, []) := rfl
theorem gg_441 : GG 441 = (⟨"RegionHouseLaw", "law", "([I)Z"⟩, code, []) := rfl
