/-! room SH (printed by tools/zgen2.py) -/
set_option maxRecDepth 100000
def RX0 : String := "KnowHouse"
def TX0 : u_T := fun k => match k with
  | 0 => ("KnowHouse", "roomNames", "Ljava/util/ArrayList;", true)
  | 1 => ("KnowHouse", "calls", "Ljava/util/ArrayList;", true)
  | 2 => ("KnowHouse", "names", "LKnowHouse$CanonNames;", true)
  | 3 => ("KnowHouse", "versions", "LKnowHouse$VersionTrans;", true)
  | 4 => ("KnowHouse", "values", "LKnowHouse$DatatypeValues;", true)
  | 5 => ("KnowHouse", "proofs", "LKnowHouse$ProofChecker;", true)
  | 6 => ("KnowHouse", "rights", "LKnowHouse$RightDesk;", true)
  | 7 => ("KnowHouse", "classes", "LKnowHouse$ClassifySort;", true)
  | 8 => ("KnowHouse", "facets", "LKnowHouse$FacetCounts;", true)
  | 9 => ("KnowHouse", "tables", "LKnowHouse$VirtualRewrite;", true)
  | 10 => ("KnowHouse", "rules", "LKnowHouse$RuleEngine;", true)
  | 11 => ("KnowHouse", "rewrite", "LKnowHouse$QlRewrite;", true)
  | 12 => ("KnowHouse", "disk", "LKnowHouse$KnowDisk;", true)
  | 13 => ("KnowHouse", "tape", "[B", true)
  | 14 => ("KnowHouse", "size", "I", false)
  | 15 => ("KnowHouse", "begins", "[I", true)
  | 16 => ("KnowHouse", "ends", "[I", true)
  | 17 => ("KnowHouse", "words", "I", false)
  | 18 => ("KnowHouse", "args", "[J", true)
  | 19 => ("KnowHouse", "answers", "[J", true)
  | 20 => ("KnowHouse", "threw", "[Z", true)
  | 21 => ("KnowHouse", "done", "I", false)
  | 22 => ("KnowHouse", "wrong", "I", false)
  | 23 => ("KnowHouse", "entries", "[I", true)
  | _ => ("KnowHouse", "entryCount", "I", false)
def tyX0 : Nat → FieldType := fun k => match k with
  | 0 => .object "java/util/ArrayList"
  | 1 => .object "java/util/ArrayList"
  | 2 => .object "KnowHouse$CanonNames"
  | 3 => .object "KnowHouse$VersionTrans"
  | 4 => .object "KnowHouse$DatatypeValues"
  | 5 => .object "KnowHouse$ProofChecker"
  | 6 => .object "KnowHouse$RightDesk"
  | 7 => .object "KnowHouse$ClassifySort"
  | 8 => .object "KnowHouse$FacetCounts"
  | 9 => .object "KnowHouse$VirtualRewrite"
  | 10 => .object "KnowHouse$RuleEngine"
  | 11 => .object "KnowHouse$QlRewrite"
  | 12 => .object "KnowHouse$KnowDisk"
  | 13 => .array .byte
  | 14 => .int
  | 15 => .array .int
  | 16 => .array .int
  | 17 => .int
  | 18 => .array .long
  | 19 => .array .long
  | 20 => .array .boolean
  | 21 => .int
  | 22 => .int
  | 23 => .array .int
  | _ => .int
abbrev wsX00 : List Cond := u_ws RX0 TX0 25
theorem nmX0 : ∀ a, a < 25 → ∀ b, b < 25 → a ≠ b → (TX0 a).2.1 ≠ (TX0 b).2.1 := by decide +kernel
theorem tyX0_ok : ∀ k, k < 25 → parseFieldDescriptor (TX0 k).2.2.1 = some (tyX0 k) := by decide +kernel
abbrev cX0_init : ByteArray := prog_1_method_1_code
def yX0_init : MethodName := ⟨RX0, "<init>", "()V"⟩
theorem dX0_init_0 : decode cX0_init 0 = .ok (.aload_n 0, 1) := by decide +kernel
theorem dX0_init_1 : decode cX0_init 1 = .ok (.invokespecial 1, 3) := by decide +kernel
theorem dX0_init_4 : decode cX0_init 4 = .ok (.aload_n 0, 1) := by decide +kernel
theorem dX0_init_5 : decode cX0_init 5 = .ok (.new 7, 3) := by decide +kernel
theorem dX0_init_8 : decode cX0_init 8 = .ok (.dup, 1) := by decide +kernel
theorem dX0_init_9 : decode cX0_init 9 = .ok (.invokespecial 9, 3) := by decide +kernel
theorem dX0_init_12 : decode cX0_init 12 = .ok (.putfield 10, 3) := by decide +kernel
theorem dX0_init_15 : decode cX0_init 15 = .ok (.aload_n 0, 1) := by decide +kernel
theorem dX0_init_16 : decode cX0_init 16 = .ok (.new 7, 3) := by decide +kernel
theorem dX0_init_19 : decode cX0_init 19 = .ok (.dup, 1) := by decide +kernel
theorem dX0_init_20 : decode cX0_init 20 = .ok (.invokespecial 9, 3) := by decide +kernel
theorem dX0_init_23 : decode cX0_init 23 = .ok (.putfield 16, 3) := by decide +kernel
theorem dX0_init_26 : decode cX0_init 26 = .ok (.aload_n 0, 1) := by decide +kernel
theorem dX0_init_27 : decode cX0_init 27 = .ok (.new 19, 3) := by decide +kernel
theorem dX0_init_30 : decode cX0_init 30 = .ok (.dup, 1) := by decide +kernel
theorem dX0_init_31 : decode cX0_init 31 = .ok (.invokespecial 21, 3) := by decide +kernel
theorem dX0_init_34 : decode cX0_init 34 = .ok (.putfield 22, 3) := by decide +kernel
theorem dX0_init_37 : decode cX0_init 37 = .ok (.aload_n 0, 1) := by decide +kernel
theorem dX0_init_38 : decode cX0_init 38 = .ok (.new 26, 3) := by decide +kernel
theorem dX0_init_41 : decode cX0_init 41 = .ok (.dup, 1) := by decide +kernel
theorem dX0_init_42 : decode cX0_init 42 = .ok (.invokespecial 28, 3) := by decide +kernel
theorem dX0_init_45 : decode cX0_init 45 = .ok (.putfield 29, 3) := by decide +kernel
theorem dX0_init_48 : decode cX0_init 48 = .ok (.aload_n 0, 1) := by decide +kernel
theorem dX0_init_49 : decode cX0_init 49 = .ok (.new 33, 3) := by decide +kernel
theorem dX0_init_52 : decode cX0_init 52 = .ok (.dup, 1) := by decide +kernel
theorem dX0_init_53 : decode cX0_init 53 = .ok (.invokespecial 35, 3) := by decide +kernel
theorem dX0_init_56 : decode cX0_init 56 = .ok (.putfield 36, 3) := by decide +kernel
theorem dX0_init_59 : decode cX0_init 59 = .ok (.aload_n 0, 1) := by decide +kernel
theorem dX0_init_60 : decode cX0_init 60 = .ok (.new 40, 3) := by decide +kernel
theorem dX0_init_63 : decode cX0_init 63 = .ok (.dup, 1) := by decide +kernel
theorem dX0_init_64 : decode cX0_init 64 = .ok (.invokespecial 42, 3) := by decide +kernel
theorem dX0_init_67 : decode cX0_init 67 = .ok (.putfield 43, 3) := by decide +kernel
theorem dX0_init_70 : decode cX0_init 70 = .ok (.aload_n 0, 1) := by decide +kernel
theorem dX0_init_71 : decode cX0_init 71 = .ok (.new 47, 3) := by decide +kernel
theorem dX0_init_74 : decode cX0_init 74 = .ok (.dup, 1) := by decide +kernel
theorem dX0_init_75 : decode cX0_init 75 = .ok (.invokespecial 49, 3) := by decide +kernel
theorem dX0_init_78 : decode cX0_init 78 = .ok (.putfield 50, 3) := by decide +kernel
theorem dX0_init_81 : decode cX0_init 81 = .ok (.aload_n 0, 1) := by decide +kernel
theorem dX0_init_82 : decode cX0_init 82 = .ok (.new 54, 3) := by decide +kernel
theorem dX0_init_85 : decode cX0_init 85 = .ok (.dup, 1) := by decide +kernel
theorem dX0_init_86 : decode cX0_init 86 = .ok (.invokespecial 56, 3) := by decide +kernel
theorem dX0_init_89 : decode cX0_init 89 = .ok (.putfield 57, 3) := by decide +kernel
theorem dX0_init_92 : decode cX0_init 92 = .ok (.aload_n 0, 1) := by decide +kernel
theorem dX0_init_93 : decode cX0_init 93 = .ok (.new 61, 3) := by decide +kernel
theorem dX0_init_96 : decode cX0_init 96 = .ok (.dup, 1) := by decide +kernel
theorem dX0_init_97 : decode cX0_init 97 = .ok (.invokespecial 63, 3) := by decide +kernel
theorem dX0_init_100 : decode cX0_init 100 = .ok (.putfield 64, 3) := by decide +kernel
theorem dX0_init_103 : decode cX0_init 103 = .ok (.aload_n 0, 1) := by decide +kernel
theorem dX0_init_104 : decode cX0_init 104 = .ok (.new 68, 3) := by decide +kernel
theorem dX0_init_107 : decode cX0_init 107 = .ok (.dup, 1) := by decide +kernel
theorem dX0_init_108 : decode cX0_init 108 = .ok (.invokespecial 70, 3) := by decide +kernel
theorem dX0_init_111 : decode cX0_init 111 = .ok (.putfield 71, 3) := by decide +kernel
theorem dX0_init_114 : decode cX0_init 114 = .ok (.aload_n 0, 1) := by decide +kernel
theorem dX0_init_115 : decode cX0_init 115 = .ok (.new 75, 3) := by decide +kernel
theorem dX0_init_118 : decode cX0_init 118 = .ok (.dup, 1) := by decide +kernel
theorem dX0_init_119 : decode cX0_init 119 = .ok (.invokespecial 77, 3) := by decide +kernel
theorem dX0_init_122 : decode cX0_init 122 = .ok (.putfield 78, 3) := by decide +kernel
theorem dX0_init_125 : decode cX0_init 125 = .ok (.aload_n 0, 1) := by decide +kernel
theorem dX0_init_126 : decode cX0_init 126 = .ok (.new 82, 3) := by decide +kernel
theorem dX0_init_129 : decode cX0_init 129 = .ok (.dup, 1) := by decide +kernel
theorem dX0_init_130 : decode cX0_init 130 = .ok (.invokespecial 84, 3) := by decide +kernel
theorem dX0_init_133 : decode cX0_init 133 = .ok (.putfield 85, 3) := by decide +kernel
theorem dX0_init_136 : decode cX0_init 136 = .ok (.aload_n 0, 1) := by decide +kernel
theorem dX0_init_137 : decode cX0_init 137 = .ok (.new 89, 3) := by decide +kernel
theorem dX0_init_140 : decode cX0_init 140 = .ok (.dup, 1) := by decide +kernel
theorem dX0_init_141 : decode cX0_init 141 = .ok (.bipush 40, 2) := by decide +kernel
theorem dX0_init_143 : decode cX0_init 143 = .ok (.invokespecial 91, 3) := by decide +kernel
theorem dX0_init_146 : decode cX0_init 146 = .ok (.putfield 94, 3) := by decide +kernel
theorem dX0_init_149 : decode cX0_init 149 = .ok (.aload_n 0, 1) := by decide +kernel
theorem dX0_init_150 : decode cX0_init 150 = .ok (.sipush 8000, 3) := by decide +kernel
theorem dX0_init_153 : decode cX0_init 153 = .ok (.newarray .byte, 2) := by decide +kernel
theorem dX0_init_155 : decode cX0_init 155 = .ok (.putfield 98, 3) := by decide +kernel
theorem dX0_init_158 : decode cX0_init 158 = .ok (.aload_n 0, 1) := by decide +kernel
theorem dX0_init_159 : decode cX0_init 159 = .ok (.bipush 12, 2) := by decide +kernel
theorem dX0_init_161 : decode cX0_init 161 = .ok (.newarray .int, 2) := by decide +kernel
theorem dX0_init_163 : decode cX0_init 163 = .ok (.putfield 102, 3) := by decide +kernel
theorem dX0_init_166 : decode cX0_init 166 = .ok (.aload_n 0, 1) := by decide +kernel
theorem dX0_init_167 : decode cX0_init 167 = .ok (.bipush 12, 2) := by decide +kernel
theorem dX0_init_169 : decode cX0_init 169 = .ok (.newarray .int, 2) := by decide +kernel
theorem dX0_init_171 : decode cX0_init 171 = .ok (.putfield 106, 3) := by decide +kernel
theorem dX0_init_174 : decode cX0_init 174 = .ok (.aload_n 0, 1) := by decide +kernel
theorem dX0_init_175 : decode cX0_init 175 = .ok (.bipush 8, 2) := by decide +kernel
theorem dX0_init_177 : decode cX0_init 177 = .ok (.newarray .long, 2) := by decide +kernel
theorem dX0_init_179 : decode cX0_init 179 = .ok (.putfield 109, 3) := by decide +kernel
theorem dX0_init_182 : decode cX0_init 182 = .ok (.aload_n 0, 1) := by decide +kernel
theorem dX0_init_183 : decode cX0_init 183 = .ok (.sipush 800, 3) := by decide +kernel
theorem dX0_init_186 : decode cX0_init 186 = .ok (.newarray .long, 2) := by decide +kernel
theorem dX0_init_188 : decode cX0_init 188 = .ok (.putfield 113, 3) := by decide +kernel
theorem dX0_init_191 : decode cX0_init 191 = .ok (.aload_n 0, 1) := by decide +kernel
theorem dX0_init_192 : decode cX0_init 192 = .ok (.sipush 800, 3) := by decide +kernel
theorem dX0_init_195 : decode cX0_init 195 = .ok (.newarray .boolean, 2) := by decide +kernel
theorem dX0_init_197 : decode cX0_init 197 = .ok (.putfield 116, 3) := by decide +kernel
theorem dX0_init_200 : decode cX0_init 200 = .ok (.aload_n 0, 1) := by decide +kernel
theorem dX0_init_201 : decode cX0_init 201 = .ok (.iconst (-1), 1) := by decide +kernel
theorem dX0_init_202 : decode cX0_init 202 = .ok (.putfield 120, 3) := by decide +kernel
theorem dX0_init_205 : decode cX0_init 205 = .ok (.aload_n 0, 1) := by decide +kernel
theorem dX0_init_206 : decode cX0_init 206 = .ok (.sipush 1200, 3) := by decide +kernel
theorem dX0_init_209 : decode cX0_init 209 = .ok (.newarray .int, 2) := by decide +kernel
theorem dX0_init_211 : decode cX0_init 211 = .ok (.putfield 124, 3) := by decide +kernel
theorem dX0_init_214 : decode cX0_init 214 = .ok (.aload_n 0, 1) := by decide +kernel
theorem dX0_init_215 : decode cX0_init 215 = .ok (.getfield 10, 3) := by decide +kernel
theorem dX0_init_218 : decode cX0_init 218 = .ok (.ldc 127, 2) := by decide +kernel
theorem dX0_init_220 : decode cX0_init 220 = .ok (.invokevirtual 129, 3) := by decide +kernel
theorem dX0_init_223 : decode cX0_init 223 = .ok (.pop, 1) := by decide +kernel
theorem dX0_init_224 : decode cX0_init 224 = .ok (.aload_n 0, 1) := by decide +kernel
theorem dX0_init_225 : decode cX0_init 225 = .ok (.getfield 10, 3) := by decide +kernel
theorem dX0_init_228 : decode cX0_init 228 = .ok (.ldc 133, 2) := by decide +kernel
theorem dX0_init_230 : decode cX0_init 230 = .ok (.invokevirtual 129, 3) := by decide +kernel
theorem dX0_init_233 : decode cX0_init 233 = .ok (.pop, 1) := by decide +kernel
theorem dX0_init_234 : decode cX0_init 234 = .ok (.aload_n 0, 1) := by decide +kernel
theorem dX0_init_235 : decode cX0_init 235 = .ok (.getfield 10, 3) := by decide +kernel
theorem dX0_init_238 : decode cX0_init 238 = .ok (.ldc 134, 2) := by decide +kernel
theorem dX0_init_240 : decode cX0_init 240 = .ok (.invokevirtual 129, 3) := by decide +kernel
theorem dX0_init_243 : decode cX0_init 243 = .ok (.pop, 1) := by decide +kernel
theorem dX0_init_244 : decode cX0_init 244 = .ok (.aload_n 0, 1) := by decide +kernel
theorem dX0_init_245 : decode cX0_init 245 = .ok (.getfield 10, 3) := by decide +kernel
theorem dX0_init_248 : decode cX0_init 248 = .ok (.ldc 135, 2) := by decide +kernel
theorem dX0_init_250 : decode cX0_init 250 = .ok (.invokevirtual 129, 3) := by decide +kernel
theorem dX0_init_253 : decode cX0_init 253 = .ok (.pop, 1) := by decide +kernel
theorem dX0_init_254 : decode cX0_init 254 = .ok (.aload_n 0, 1) := by decide +kernel
theorem dX0_init_255 : decode cX0_init 255 = .ok (.getfield 10, 3) := by decide +kernel
theorem dX0_init_258 : decode cX0_init 258 = .ok (.ldc 136, 2) := by decide +kernel
theorem dX0_init_260 : decode cX0_init 260 = .ok (.invokevirtual 129, 3) := by decide +kernel
theorem dX0_init_263 : decode cX0_init 263 = .ok (.pop, 1) := by decide +kernel
theorem dX0_init_264 : decode cX0_init 264 = .ok (.aload_n 0, 1) := by decide +kernel
theorem dX0_init_265 : decode cX0_init 265 = .ok (.getfield 10, 3) := by decide +kernel
theorem dX0_init_268 : decode cX0_init 268 = .ok (.ldc 137, 2) := by decide +kernel
theorem dX0_init_270 : decode cX0_init 270 = .ok (.invokevirtual 129, 3) := by decide +kernel
theorem dX0_init_273 : decode cX0_init 273 = .ok (.pop, 1) := by decide +kernel
theorem dX0_init_274 : decode cX0_init 274 = .ok (.aload_n 0, 1) := by decide +kernel
theorem dX0_init_275 : decode cX0_init 275 = .ok (.getfield 10, 3) := by decide +kernel
theorem dX0_init_278 : decode cX0_init 278 = .ok (.ldc 138, 2) := by decide +kernel
theorem dX0_init_280 : decode cX0_init 280 = .ok (.invokevirtual 129, 3) := by decide +kernel
theorem dX0_init_283 : decode cX0_init 283 = .ok (.pop, 1) := by decide +kernel
theorem dX0_init_284 : decode cX0_init 284 = .ok (.aload_n 0, 1) := by decide +kernel
theorem dX0_init_285 : decode cX0_init 285 = .ok (.getfield 10, 3) := by decide +kernel
theorem dX0_init_288 : decode cX0_init 288 = .ok (.ldc 139, 2) := by decide +kernel
theorem dX0_init_290 : decode cX0_init 290 = .ok (.invokevirtual 129, 3) := by decide +kernel
theorem dX0_init_293 : decode cX0_init 293 = .ok (.pop, 1) := by decide +kernel
theorem dX0_init_294 : decode cX0_init 294 = .ok (.aload_n 0, 1) := by decide +kernel
theorem dX0_init_295 : decode cX0_init 295 = .ok (.getfield 10, 3) := by decide +kernel
theorem dX0_init_298 : decode cX0_init 298 = .ok (.ldc 140, 2) := by decide +kernel
theorem dX0_init_300 : decode cX0_init 300 = .ok (.invokevirtual 129, 3) := by decide +kernel
theorem dX0_init_303 : decode cX0_init 303 = .ok (.pop, 1) := by decide +kernel
theorem dX0_init_304 : decode cX0_init 304 = .ok (.aload_n 0, 1) := by decide +kernel
theorem dX0_init_305 : decode cX0_init 305 = .ok (.getfield 10, 3) := by decide +kernel
theorem dX0_init_308 : decode cX0_init 308 = .ok (.ldc 141, 2) := by decide +kernel
theorem dX0_init_310 : decode cX0_init 310 = .ok (.invokevirtual 129, 3) := by decide +kernel
theorem dX0_init_313 : decode cX0_init 313 = .ok (.pop, 1) := by decide +kernel
theorem dX0_init_314 : decode cX0_init 314 = .ok (.aload_n 0, 1) := by decide +kernel
theorem dX0_init_315 : decode cX0_init 315 = .ok (.getfield 10, 3) := by decide +kernel
theorem dX0_init_318 : decode cX0_init 318 = .ok (.ldc 142, 2) := by decide +kernel
theorem dX0_init_320 : decode cX0_init 320 = .ok (.invokevirtual 129, 3) := by decide +kernel
theorem dX0_init_323 : decode cX0_init 323 = .ok (.pop, 1) := by decide +kernel
theorem dX0_init_324 : decode cX0_init 324 = .ok (.aload_n 0, 1) := by decide +kernel
theorem dX0_init_325 : decode cX0_init 325 = .ok (.getfield 10, 3) := by decide +kernel
theorem dX0_init_328 : decode cX0_init 328 = .ok (.ldc 143, 2) := by decide +kernel
theorem dX0_init_330 : decode cX0_init 330 = .ok (.invokevirtual 129, 3) := by decide +kernel
theorem dX0_init_333 : decode cX0_init 333 = .ok (.pop, 1) := by decide +kernel
theorem dX0_init_334 : decode cX0_init 334 = .ok (.aload_n 0, 1) := by decide +kernel
theorem dX0_init_335 : decode cX0_init 335 = .ok (.invokevirtual 144, 3) := by decide +kernel
theorem dX0_init_338 : decode cX0_init 338 = .ok (.aload_n 0, 1) := by decide +kernel
theorem dX0_init_339 : decode cX0_init 339 = .ok (.invokevirtual 147, 3) := by decide +kernel
theorem dX0_init_342 : decode cX0_init 342 = .ok (.aload_n 0, 1) := by decide +kernel
theorem dX0_init_343 : decode cX0_init 343 = .ok (.invokevirtual 150, 3) := by decide +kernel
theorem dX0_init_346 : decode cX0_init 346 = .ok (.aload_n 0, 1) := by decide +kernel
theorem dX0_init_347 : decode cX0_init 347 = .ok (.invokevirtual 153, 3) := by decide +kernel
theorem dX0_init_350 : decode cX0_init 350 = .ok (.aload_n 0, 1) := by decide +kernel
theorem dX0_init_351 : decode cX0_init 351 = .ok (.invokevirtual 156, 3) := by decide +kernel
theorem dX0_init_354 : decode cX0_init 354 = .ok (.aload_n 0, 1) := by decide +kernel
theorem dX0_init_355 : decode cX0_init 355 = .ok (.invokevirtual 159, 3) := by decide +kernel
theorem dX0_init_358 : decode cX0_init 358 = .ok (.aload_n 0, 1) := by decide +kernel
theorem dX0_init_359 : decode cX0_init 359 = .ok (.invokevirtual 162, 3) := by decide +kernel
theorem dX0_init_362 : decode cX0_init 362 = .ok (.aload_n 0, 1) := by decide +kernel
theorem dX0_init_363 : decode cX0_init 363 = .ok (.invokevirtual 165, 3) := by decide +kernel
theorem dX0_init_366 : decode cX0_init 366 = .ok (.aload_n 0, 1) := by decide +kernel
theorem dX0_init_367 : decode cX0_init 367 = .ok (.invokevirtual 168, 3) := by decide +kernel
theorem dX0_init_370 : decode cX0_init 370 = .ok (.aload_n 0, 1) := by decide +kernel
theorem dX0_init_371 : decode cX0_init 371 = .ok (.invokevirtual 171, 3) := by decide +kernel
theorem dX0_init_374 : decode cX0_init 374 = .ok (.aload_n 0, 1) := by decide +kernel
theorem dX0_init_375 : decode cX0_init 375 = .ok (.invokevirtual 174, 3) := by decide +kernel
theorem dX0_init_378 : decode cX0_init 378 = .ok (.aload_n 0, 1) := by decide +kernel
theorem dX0_init_379 : decode cX0_init 379 = .ok (.invokevirtual 177, 3) := by decide +kernel
theorem dX0_init_382 : decode cX0_init 382 = .ok (.return_, 1) := by decide +kernel
abbrev cX0_tellHouse : ByteArray := prog_1_method_2_code
def yX0_tellHouse : MethodName := ⟨RX0, "tellHouse", "()V"⟩
theorem dX0_tellHouse_0 : decode cX0_tellHouse 0 = .ok (.aload_n 0, 1) := by decide +kernel
theorem dX0_tellHouse_1 : decode cX0_tellHouse 1 = .ok (.iconst 0, 1) := by decide +kernel
theorem dX0_tellHouse_2 : decode cX0_tellHouse 2 = .ok (.iconst 0, 1) := by decide +kernel
theorem dX0_tellHouse_3 : decode cX0_tellHouse 3 = .ok (.ldc 180, 2) := by decide +kernel
theorem dX0_tellHouse_5 : decode cX0_tellHouse 5 = .ok (.ldc 182, 2) := by decide +kernel
theorem dX0_tellHouse_7 : decode cX0_tellHouse 7 = .ok (.invokevirtual 184, 3) := by decide +kernel
theorem dX0_tellHouse_10 : decode cX0_tellHouse 10 = .ok (.aload_n 0, 1) := by decide +kernel
theorem dX0_tellHouse_11 : decode cX0_tellHouse 11 = .ok (.iconst 0, 1) := by decide +kernel
theorem dX0_tellHouse_12 : decode cX0_tellHouse 12 = .ok (.iconst 1, 1) := by decide +kernel
theorem dX0_tellHouse_13 : decode cX0_tellHouse 13 = .ok (.ldc 187, 2) := by decide +kernel
theorem dX0_tellHouse_15 : decode cX0_tellHouse 15 = .ok (.ldc 189, 2) := by decide +kernel
theorem dX0_tellHouse_17 : decode cX0_tellHouse 17 = .ok (.invokevirtual 184, 3) := by decide +kernel
theorem dX0_tellHouse_20 : decode cX0_tellHouse 20 = .ok (.aload_n 0, 1) := by decide +kernel
theorem dX0_tellHouse_21 : decode cX0_tellHouse 21 = .ok (.iconst 0, 1) := by decide +kernel
theorem dX0_tellHouse_22 : decode cX0_tellHouse 22 = .ok (.iconst 2, 1) := by decide +kernel
theorem dX0_tellHouse_23 : decode cX0_tellHouse 23 = .ok (.ldc 191, 2) := by decide +kernel
theorem dX0_tellHouse_25 : decode cX0_tellHouse 25 = .ok (.ldc 189, 2) := by decide +kernel
theorem dX0_tellHouse_27 : decode cX0_tellHouse 27 = .ok (.invokevirtual 184, 3) := by decide +kernel
theorem dX0_tellHouse_30 : decode cX0_tellHouse 30 = .ok (.aload_n 0, 1) := by decide +kernel
theorem dX0_tellHouse_31 : decode cX0_tellHouse 31 = .ok (.iconst 0, 1) := by decide +kernel
theorem dX0_tellHouse_32 : decode cX0_tellHouse 32 = .ok (.iconst 3, 1) := by decide +kernel
theorem dX0_tellHouse_33 : decode cX0_tellHouse 33 = .ok (.ldc 193, 2) := by decide +kernel
theorem dX0_tellHouse_35 : decode cX0_tellHouse 35 = .ok (.ldc 195, 2) := by decide +kernel
theorem dX0_tellHouse_37 : decode cX0_tellHouse 37 = .ok (.invokevirtual 184, 3) := by decide +kernel
theorem dX0_tellHouse_40 : decode cX0_tellHouse 40 = .ok (.aload_n 0, 1) := by decide +kernel
theorem dX0_tellHouse_41 : decode cX0_tellHouse 41 = .ok (.iconst 0, 1) := by decide +kernel
theorem dX0_tellHouse_42 : decode cX0_tellHouse 42 = .ok (.iconst 4, 1) := by decide +kernel
theorem dX0_tellHouse_43 : decode cX0_tellHouse 43 = .ok (.ldc 197, 2) := by decide +kernel
theorem dX0_tellHouse_45 : decode cX0_tellHouse 45 = .ok (.ldc 195, 2) := by decide +kernel
theorem dX0_tellHouse_47 : decode cX0_tellHouse 47 = .ok (.invokevirtual 184, 3) := by decide +kernel
theorem dX0_tellHouse_50 : decode cX0_tellHouse 50 = .ok (.aload_n 0, 1) := by decide +kernel
theorem dX0_tellHouse_51 : decode cX0_tellHouse 51 = .ok (.iconst 0, 1) := by decide +kernel
theorem dX0_tellHouse_52 : decode cX0_tellHouse 52 = .ok (.iconst 5, 1) := by decide +kernel
theorem dX0_tellHouse_53 : decode cX0_tellHouse 53 = .ok (.ldc 199, 2) := by decide +kernel
theorem dX0_tellHouse_55 : decode cX0_tellHouse 55 = .ok (.ldc 189, 2) := by decide +kernel
theorem dX0_tellHouse_57 : decode cX0_tellHouse 57 = .ok (.invokevirtual 184, 3) := by decide +kernel
theorem dX0_tellHouse_60 : decode cX0_tellHouse 60 = .ok (.aload_n 0, 1) := by decide +kernel
theorem dX0_tellHouse_61 : decode cX0_tellHouse 61 = .ok (.iconst 0, 1) := by decide +kernel
theorem dX0_tellHouse_62 : decode cX0_tellHouse 62 = .ok (.bipush 6, 2) := by decide +kernel
theorem dX0_tellHouse_64 : decode cX0_tellHouse 64 = .ok (.ldc 201, 2) := by decide +kernel
theorem dX0_tellHouse_66 : decode cX0_tellHouse 66 = .ok (.ldc 203, 2) := by decide +kernel
theorem dX0_tellHouse_68 : decode cX0_tellHouse 68 = .ok (.invokevirtual 184, 3) := by decide +kernel
theorem dX0_tellHouse_71 : decode cX0_tellHouse 71 = .ok (.aload_n 0, 1) := by decide +kernel
theorem dX0_tellHouse_72 : decode cX0_tellHouse 72 = .ok (.iconst 0, 1) := by decide +kernel
theorem dX0_tellHouse_73 : decode cX0_tellHouse 73 = .ok (.bipush 7, 2) := by decide +kernel
theorem dX0_tellHouse_75 : decode cX0_tellHouse 75 = .ok (.ldc 205, 2) := by decide +kernel
theorem dX0_tellHouse_77 : decode cX0_tellHouse 77 = .ok (.ldc 207, 2) := by decide +kernel
theorem dX0_tellHouse_79 : decode cX0_tellHouse 79 = .ok (.invokevirtual 184, 3) := by decide +kernel
theorem dX0_tellHouse_82 : decode cX0_tellHouse 82 = .ok (.aload_n 0, 1) := by decide +kernel
theorem dX0_tellHouse_83 : decode cX0_tellHouse 83 = .ok (.iconst 0, 1) := by decide +kernel
theorem dX0_tellHouse_84 : decode cX0_tellHouse 84 = .ok (.bipush 8, 2) := by decide +kernel
theorem dX0_tellHouse_86 : decode cX0_tellHouse 86 = .ok (.ldc 209, 2) := by decide +kernel
theorem dX0_tellHouse_88 : decode cX0_tellHouse 88 = .ok (.ldc 189, 2) := by decide +kernel
theorem dX0_tellHouse_90 : decode cX0_tellHouse 90 = .ok (.invokevirtual 184, 3) := by decide +kernel
theorem dX0_tellHouse_93 : decode cX0_tellHouse 93 = .ok (.aload_n 0, 1) := by decide +kernel
theorem dX0_tellHouse_94 : decode cX0_tellHouse 94 = .ok (.iconst 0, 1) := by decide +kernel
theorem dX0_tellHouse_95 : decode cX0_tellHouse 95 = .ok (.bipush 9, 2) := by decide +kernel
theorem dX0_tellHouse_97 : decode cX0_tellHouse 97 = .ok (.ldc 211, 2) := by decide +kernel
theorem dX0_tellHouse_99 : decode cX0_tellHouse 99 = .ok (.ldc 195, 2) := by decide +kernel
theorem dX0_tellHouse_101 : decode cX0_tellHouse 101 = .ok (.invokevirtual 184, 3) := by decide +kernel
theorem dX0_tellHouse_104 : decode cX0_tellHouse 104 = .ok (.return_, 1) := by decide +kernel
abbrev cX0_add : ByteArray := prog_1_method_14_code
def yX0_add : MethodName := ⟨RX0, "add", "(IILjava/lang/String;Ljava/lang/String;)V"⟩
theorem dX0_add_0 : decode cX0_add 0 = .ok (.aload_n 0, 1) := by decide +kernel
theorem dX0_add_1 : decode cX0_add 1 = .ok (.getfield 16, 3) := by decide +kernel
theorem dX0_add_4 : decode cX0_add 4 = .ok (.new 470, 3) := by decide +kernel
theorem dX0_add_7 : decode cX0_add 7 = .ok (.dup, 1) := by decide +kernel
theorem dX0_add_8 : decode cX0_add 8 = .ok (.iload_n 1, 1) := by decide +kernel
theorem dX0_add_9 : decode cX0_add 9 = .ok (.iload_n 2, 1) := by decide +kernel
theorem dX0_add_10 : decode cX0_add 10 = .ok (.aload_n 3, 1) := by decide +kernel
theorem dX0_add_11 : decode cX0_add 11 = .ok (.aload 4, 2) := by decide +kernel
theorem dX0_add_13 : decode cX0_add 13 = .ok (.invokespecial 472, 3) := by decide +kernel
theorem dX0_add_16 : decode cX0_add 16 = .ok (.invokevirtual 129, 3) := by decide +kernel
theorem dX0_add_19 : decode cX0_add 19 = .ok (.pop, 1) := by decide +kernel
theorem dX0_add_20 : decode cX0_add 20 = .ok (.return_, 1) := by decide +kernel
abbrev cX0_tellNames : ByteArray := prog_1_method_3_code
def yX0_tellNames : MethodName := ⟨RX0, "tellNames", "()V"⟩
theorem dX0_tellNames_0 : decode cX0_tellNames 0 = .ok (.aload_n 0, 1) := by decide +kernel
theorem dX0_tellNames_1 : decode cX0_tellNames 1 = .ok (.iconst 1, 1) := by decide +kernel
theorem dX0_tellNames_2 : decode cX0_tellNames 2 = .ok (.iconst 0, 1) := by decide +kernel
theorem dX0_tellNames_3 : decode cX0_tellNames 3 = .ok (.ldc 213, 2) := by decide +kernel
theorem dX0_tellNames_5 : decode cX0_tellNames 5 = .ok (.ldc 189, 2) := by decide +kernel
theorem dX0_tellNames_7 : decode cX0_tellNames 7 = .ok (.invokevirtual 184, 3) := by decide +kernel
theorem dX0_tellNames_10 : decode cX0_tellNames 10 = .ok (.aload_n 0, 1) := by decide +kernel
theorem dX0_tellNames_11 : decode cX0_tellNames 11 = .ok (.iconst 1, 1) := by decide +kernel
theorem dX0_tellNames_12 : decode cX0_tellNames 12 = .ok (.iconst 1, 1) := by decide +kernel
theorem dX0_tellNames_13 : decode cX0_tellNames 13 = .ok (.ldc 215, 2) := by decide +kernel
theorem dX0_tellNames_15 : decode cX0_tellNames 15 = .ok (.ldc 203, 2) := by decide +kernel
theorem dX0_tellNames_17 : decode cX0_tellNames 17 = .ok (.invokevirtual 184, 3) := by decide +kernel
theorem dX0_tellNames_20 : decode cX0_tellNames 20 = .ok (.aload_n 0, 1) := by decide +kernel
theorem dX0_tellNames_21 : decode cX0_tellNames 21 = .ok (.iconst 1, 1) := by decide +kernel
theorem dX0_tellNames_22 : decode cX0_tellNames 22 = .ok (.iconst 2, 1) := by decide +kernel
theorem dX0_tellNames_23 : decode cX0_tellNames 23 = .ok (.ldc 217, 2) := by decide +kernel
theorem dX0_tellNames_25 : decode cX0_tellNames 25 = .ok (.ldc 203, 2) := by decide +kernel
theorem dX0_tellNames_27 : decode cX0_tellNames 27 = .ok (.invokevirtual 184, 3) := by decide +kernel
theorem dX0_tellNames_30 : decode cX0_tellNames 30 = .ok (.aload_n 0, 1) := by decide +kernel
theorem dX0_tellNames_31 : decode cX0_tellNames 31 = .ok (.iconst 1, 1) := by decide +kernel
theorem dX0_tellNames_32 : decode cX0_tellNames 32 = .ok (.iconst 3, 1) := by decide +kernel
theorem dX0_tellNames_33 : decode cX0_tellNames 33 = .ok (.ldc 219, 2) := by decide +kernel
theorem dX0_tellNames_35 : decode cX0_tellNames 35 = .ok (.ldc 221, 2) := by decide +kernel
theorem dX0_tellNames_37 : decode cX0_tellNames 37 = .ok (.invokevirtual 184, 3) := by decide +kernel
theorem dX0_tellNames_40 : decode cX0_tellNames 40 = .ok (.aload_n 0, 1) := by decide +kernel
theorem dX0_tellNames_41 : decode cX0_tellNames 41 = .ok (.iconst 1, 1) := by decide +kernel
theorem dX0_tellNames_42 : decode cX0_tellNames 42 = .ok (.iconst 4, 1) := by decide +kernel
theorem dX0_tellNames_43 : decode cX0_tellNames 43 = .ok (.ldc 223, 2) := by decide +kernel
theorem dX0_tellNames_45 : decode cX0_tellNames 45 = .ok (.ldc 207, 2) := by decide +kernel
theorem dX0_tellNames_47 : decode cX0_tellNames 47 = .ok (.invokevirtual 184, 3) := by decide +kernel
theorem dX0_tellNames_50 : decode cX0_tellNames 50 = .ok (.aload_n 0, 1) := by decide +kernel
theorem dX0_tellNames_51 : decode cX0_tellNames 51 = .ok (.iconst 1, 1) := by decide +kernel
theorem dX0_tellNames_52 : decode cX0_tellNames 52 = .ok (.iconst 5, 1) := by decide +kernel
theorem dX0_tellNames_53 : decode cX0_tellNames 53 = .ok (.ldc 225, 2) := by decide +kernel
theorem dX0_tellNames_55 : decode cX0_tellNames 55 = .ok (.ldc 195, 2) := by decide +kernel
theorem dX0_tellNames_57 : decode cX0_tellNames 57 = .ok (.invokevirtual 184, 3) := by decide +kernel
theorem dX0_tellNames_60 : decode cX0_tellNames 60 = .ok (.aload_n 0, 1) := by decide +kernel
theorem dX0_tellNames_61 : decode cX0_tellNames 61 = .ok (.iconst 1, 1) := by decide +kernel
theorem dX0_tellNames_62 : decode cX0_tellNames 62 = .ok (.bipush 6, 2) := by decide +kernel
theorem dX0_tellNames_64 : decode cX0_tellNames 64 = .ok (.ldc 227, 2) := by decide +kernel
theorem dX0_tellNames_66 : decode cX0_tellNames 66 = .ok (.ldc 195, 2) := by decide +kernel
theorem dX0_tellNames_68 : decode cX0_tellNames 68 = .ok (.invokevirtual 184, 3) := by decide +kernel
theorem dX0_tellNames_71 : decode cX0_tellNames 71 = .ok (.aload_n 0, 1) := by decide +kernel
theorem dX0_tellNames_72 : decode cX0_tellNames 72 = .ok (.iconst 1, 1) := by decide +kernel
theorem dX0_tellNames_73 : decode cX0_tellNames 73 = .ok (.bipush 7, 2) := by decide +kernel
theorem dX0_tellNames_75 : decode cX0_tellNames 75 = .ok (.ldc 229, 2) := by decide +kernel
theorem dX0_tellNames_77 : decode cX0_tellNames 77 = .ok (.ldc 189, 2) := by decide +kernel
theorem dX0_tellNames_79 : decode cX0_tellNames 79 = .ok (.invokevirtual 184, 3) := by decide +kernel
theorem dX0_tellNames_82 : decode cX0_tellNames 82 = .ok (.aload_n 0, 1) := by decide +kernel
theorem dX0_tellNames_83 : decode cX0_tellNames 83 = .ok (.iconst 1, 1) := by decide +kernel
theorem dX0_tellNames_84 : decode cX0_tellNames 84 = .ok (.bipush 8, 2) := by decide +kernel
theorem dX0_tellNames_86 : decode cX0_tellNames 86 = .ok (.ldc 231, 2) := by decide +kernel
theorem dX0_tellNames_88 : decode cX0_tellNames 88 = .ok (.ldc 195, 2) := by decide +kernel
theorem dX0_tellNames_90 : decode cX0_tellNames 90 = .ok (.invokevirtual 184, 3) := by decide +kernel
theorem dX0_tellNames_93 : decode cX0_tellNames 93 = .ok (.aload_n 0, 1) := by decide +kernel
theorem dX0_tellNames_94 : decode cX0_tellNames 94 = .ok (.iconst 1, 1) := by decide +kernel
theorem dX0_tellNames_95 : decode cX0_tellNames 95 = .ok (.bipush 9, 2) := by decide +kernel
theorem dX0_tellNames_97 : decode cX0_tellNames 97 = .ok (.ldc 233, 2) := by decide +kernel
theorem dX0_tellNames_99 : decode cX0_tellNames 99 = .ok (.ldc 189, 2) := by decide +kernel
theorem dX0_tellNames_101 : decode cX0_tellNames 101 = .ok (.invokevirtual 184, 3) := by decide +kernel
theorem dX0_tellNames_104 : decode cX0_tellNames 104 = .ok (.aload_n 0, 1) := by decide +kernel
theorem dX0_tellNames_105 : decode cX0_tellNames 105 = .ok (.iconst 1, 1) := by decide +kernel
theorem dX0_tellNames_106 : decode cX0_tellNames 106 = .ok (.bipush 10, 2) := by decide +kernel
theorem dX0_tellNames_108 : decode cX0_tellNames 108 = .ok (.ldc 235, 2) := by decide +kernel
theorem dX0_tellNames_110 : decode cX0_tellNames 110 = .ok (.ldc 207, 2) := by decide +kernel
theorem dX0_tellNames_112 : decode cX0_tellNames 112 = .ok (.invokevirtual 184, 3) := by decide +kernel
theorem dX0_tellNames_115 : decode cX0_tellNames 115 = .ok (.aload_n 0, 1) := by decide +kernel
theorem dX0_tellNames_116 : decode cX0_tellNames 116 = .ok (.iconst 1, 1) := by decide +kernel
theorem dX0_tellNames_117 : decode cX0_tellNames 117 = .ok (.bipush 11, 2) := by decide +kernel
theorem dX0_tellNames_119 : decode cX0_tellNames 119 = .ok (.ldc 237, 2) := by decide +kernel
theorem dX0_tellNames_121 : decode cX0_tellNames 121 = .ok (.ldc 207, 2) := by decide +kernel
theorem dX0_tellNames_123 : decode cX0_tellNames 123 = .ok (.invokevirtual 184, 3) := by decide +kernel
theorem dX0_tellNames_126 : decode cX0_tellNames 126 = .ok (.aload_n 0, 1) := by decide +kernel
theorem dX0_tellNames_127 : decode cX0_tellNames 127 = .ok (.iconst 1, 1) := by decide +kernel
theorem dX0_tellNames_128 : decode cX0_tellNames 128 = .ok (.bipush 12, 2) := by decide +kernel
theorem dX0_tellNames_130 : decode cX0_tellNames 130 = .ok (.ldc 239, 2) := by decide +kernel
theorem dX0_tellNames_132 : decode cX0_tellNames 132 = .ok (.ldc 207, 2) := by decide +kernel
theorem dX0_tellNames_134 : decode cX0_tellNames 134 = .ok (.invokevirtual 184, 3) := by decide +kernel
theorem dX0_tellNames_137 : decode cX0_tellNames 137 = .ok (.aload_n 0, 1) := by decide +kernel
theorem dX0_tellNames_138 : decode cX0_tellNames 138 = .ok (.iconst 1, 1) := by decide +kernel
theorem dX0_tellNames_139 : decode cX0_tellNames 139 = .ok (.bipush 13, 2) := by decide +kernel
theorem dX0_tellNames_141 : decode cX0_tellNames 141 = .ok (.ldc 241, 2) := by decide +kernel
theorem dX0_tellNames_143 : decode cX0_tellNames 143 = .ok (.ldc 189, 2) := by decide +kernel
theorem dX0_tellNames_145 : decode cX0_tellNames 145 = .ok (.invokevirtual 184, 3) := by decide +kernel
theorem dX0_tellNames_148 : decode cX0_tellNames 148 = .ok (.aload_n 0, 1) := by decide +kernel
theorem dX0_tellNames_149 : decode cX0_tellNames 149 = .ok (.iconst 1, 1) := by decide +kernel
theorem dX0_tellNames_150 : decode cX0_tellNames 150 = .ok (.bipush 14, 2) := by decide +kernel
theorem dX0_tellNames_152 : decode cX0_tellNames 152 = .ok (.ldc 243, 2) := by decide +kernel
theorem dX0_tellNames_154 : decode cX0_tellNames 154 = .ok (.ldc 189, 2) := by decide +kernel
theorem dX0_tellNames_156 : decode cX0_tellNames 156 = .ok (.invokevirtual 184, 3) := by decide +kernel
theorem dX0_tellNames_159 : decode cX0_tellNames 159 = .ok (.return_, 1) := by decide +kernel
abbrev cX0_tellVersions : ByteArray := prog_1_method_4_code
def yX0_tellVersions : MethodName := ⟨RX0, "tellVersions", "()V"⟩
theorem dX0_tellVersions_0 : decode cX0_tellVersions 0 = .ok (.aload_n 0, 1) := by decide +kernel
theorem dX0_tellVersions_1 : decode cX0_tellVersions 1 = .ok (.iconst 2, 1) := by decide +kernel
theorem dX0_tellVersions_2 : decode cX0_tellVersions 2 = .ok (.iconst 0, 1) := by decide +kernel
theorem dX0_tellVersions_3 : decode cX0_tellVersions 3 = .ok (.ldc 245, 2) := by decide +kernel
theorem dX0_tellVersions_5 : decode cX0_tellVersions 5 = .ok (.ldc 189, 2) := by decide +kernel
theorem dX0_tellVersions_7 : decode cX0_tellVersions 7 = .ok (.invokevirtual 184, 3) := by decide +kernel
theorem dX0_tellVersions_10 : decode cX0_tellVersions 10 = .ok (.aload_n 0, 1) := by decide +kernel
theorem dX0_tellVersions_11 : decode cX0_tellVersions 11 = .ok (.iconst 2, 1) := by decide +kernel
theorem dX0_tellVersions_12 : decode cX0_tellVersions 12 = .ok (.iconst 1, 1) := by decide +kernel
theorem dX0_tellVersions_13 : decode cX0_tellVersions 13 = .ok (.ldc 247, 2) := by decide +kernel
theorem dX0_tellVersions_15 : decode cX0_tellVersions 15 = .ok (.ldc 207, 2) := by decide +kernel
theorem dX0_tellVersions_17 : decode cX0_tellVersions 17 = .ok (.invokevirtual 184, 3) := by decide +kernel
theorem dX0_tellVersions_20 : decode cX0_tellVersions 20 = .ok (.aload_n 0, 1) := by decide +kernel
theorem dX0_tellVersions_21 : decode cX0_tellVersions 21 = .ok (.iconst 2, 1) := by decide +kernel
theorem dX0_tellVersions_22 : decode cX0_tellVersions 22 = .ok (.iconst 2, 1) := by decide +kernel
theorem dX0_tellVersions_23 : decode cX0_tellVersions 23 = .ok (.ldc 249, 2) := by decide +kernel
theorem dX0_tellVersions_25 : decode cX0_tellVersions 25 = .ok (.ldc 182, 2) := by decide +kernel
theorem dX0_tellVersions_27 : decode cX0_tellVersions 27 = .ok (.invokevirtual 184, 3) := by decide +kernel
theorem dX0_tellVersions_30 : decode cX0_tellVersions 30 = .ok (.aload_n 0, 1) := by decide +kernel
theorem dX0_tellVersions_31 : decode cX0_tellVersions 31 = .ok (.iconst 2, 1) := by decide +kernel
theorem dX0_tellVersions_32 : decode cX0_tellVersions 32 = .ok (.iconst 3, 1) := by decide +kernel
theorem dX0_tellVersions_33 : decode cX0_tellVersions 33 = .ok (.ldc 251, 2) := by decide +kernel
theorem dX0_tellVersions_35 : decode cX0_tellVersions 35 = .ok (.ldc 195, 2) := by decide +kernel
theorem dX0_tellVersions_37 : decode cX0_tellVersions 37 = .ok (.invokevirtual 184, 3) := by decide +kernel
theorem dX0_tellVersions_40 : decode cX0_tellVersions 40 = .ok (.aload_n 0, 1) := by decide +kernel
theorem dX0_tellVersions_41 : decode cX0_tellVersions 41 = .ok (.iconst 2, 1) := by decide +kernel
theorem dX0_tellVersions_42 : decode cX0_tellVersions 42 = .ok (.iconst 4, 1) := by decide +kernel
theorem dX0_tellVersions_43 : decode cX0_tellVersions 43 = .ok (.ldc 253, 2) := by decide +kernel
theorem dX0_tellVersions_45 : decode cX0_tellVersions 45 = .ok (.ldc 195, 2) := by decide +kernel
theorem dX0_tellVersions_47 : decode cX0_tellVersions 47 = .ok (.invokevirtual 184, 3) := by decide +kernel
theorem dX0_tellVersions_50 : decode cX0_tellVersions 50 = .ok (.aload_n 0, 1) := by decide +kernel
theorem dX0_tellVersions_51 : decode cX0_tellVersions 51 = .ok (.iconst 2, 1) := by decide +kernel
theorem dX0_tellVersions_52 : decode cX0_tellVersions 52 = .ok (.iconst 5, 1) := by decide +kernel
theorem dX0_tellVersions_53 : decode cX0_tellVersions 53 = .ok (.ldc 255, 2) := by decide +kernel
theorem dX0_tellVersions_55 : decode cX0_tellVersions 55 = .ok (.ldc 195, 2) := by decide +kernel
theorem dX0_tellVersions_57 : decode cX0_tellVersions 57 = .ok (.invokevirtual 184, 3) := by decide +kernel
theorem dX0_tellVersions_60 : decode cX0_tellVersions 60 = .ok (.aload_n 0, 1) := by decide +kernel
theorem dX0_tellVersions_61 : decode cX0_tellVersions 61 = .ok (.iconst 2, 1) := by decide +kernel
theorem dX0_tellVersions_62 : decode cX0_tellVersions 62 = .ok (.bipush 6, 2) := by decide +kernel
theorem dX0_tellVersions_64 : decode cX0_tellVersions 64 = .ok (.ldc_w 257, 3) := by decide +kernel
theorem dX0_tellVersions_67 : decode cX0_tellVersions 67 = .ok (.ldc 207, 2) := by decide +kernel
theorem dX0_tellVersions_69 : decode cX0_tellVersions 69 = .ok (.invokevirtual 184, 3) := by decide +kernel
theorem dX0_tellVersions_72 : decode cX0_tellVersions 72 = .ok (.aload_n 0, 1) := by decide +kernel
theorem dX0_tellVersions_73 : decode cX0_tellVersions 73 = .ok (.iconst 2, 1) := by decide +kernel
theorem dX0_tellVersions_74 : decode cX0_tellVersions 74 = .ok (.bipush 7, 2) := by decide +kernel
theorem dX0_tellVersions_76 : decode cX0_tellVersions 76 = .ok (.ldc_w 259, 3) := by decide +kernel
theorem dX0_tellVersions_79 : decode cX0_tellVersions 79 = .ok (.ldc 207, 2) := by decide +kernel
theorem dX0_tellVersions_81 : decode cX0_tellVersions 81 = .ok (.invokevirtual 184, 3) := by decide +kernel
theorem dX0_tellVersions_84 : decode cX0_tellVersions 84 = .ok (.aload_n 0, 1) := by decide +kernel
theorem dX0_tellVersions_85 : decode cX0_tellVersions 85 = .ok (.iconst 2, 1) := by decide +kernel
theorem dX0_tellVersions_86 : decode cX0_tellVersions 86 = .ok (.bipush 8, 2) := by decide +kernel
theorem dX0_tellVersions_88 : decode cX0_tellVersions 88 = .ok (.ldc_w 261, 3) := by decide +kernel
theorem dX0_tellVersions_91 : decode cX0_tellVersions 91 = .ok (.ldc 207, 2) := by decide +kernel
theorem dX0_tellVersions_93 : decode cX0_tellVersions 93 = .ok (.invokevirtual 184, 3) := by decide +kernel
theorem dX0_tellVersions_96 : decode cX0_tellVersions 96 = .ok (.aload_n 0, 1) := by decide +kernel
theorem dX0_tellVersions_97 : decode cX0_tellVersions 97 = .ok (.iconst 2, 1) := by decide +kernel
theorem dX0_tellVersions_98 : decode cX0_tellVersions 98 = .ok (.bipush 9, 2) := by decide +kernel
theorem dX0_tellVersions_100 : decode cX0_tellVersions 100 = .ok (.ldc_w 263, 3) := by decide +kernel
theorem dX0_tellVersions_103 : decode cX0_tellVersions 103 = .ok (.ldc 207, 2) := by decide +kernel
theorem dX0_tellVersions_105 : decode cX0_tellVersions 105 = .ok (.invokevirtual 184, 3) := by decide +kernel
theorem dX0_tellVersions_108 : decode cX0_tellVersions 108 = .ok (.aload_n 0, 1) := by decide +kernel
theorem dX0_tellVersions_109 : decode cX0_tellVersions 109 = .ok (.iconst 2, 1) := by decide +kernel
theorem dX0_tellVersions_110 : decode cX0_tellVersions 110 = .ok (.bipush 10, 2) := by decide +kernel
theorem dX0_tellVersions_112 : decode cX0_tellVersions 112 = .ok (.ldc_w 265, 3) := by decide +kernel
theorem dX0_tellVersions_115 : decode cX0_tellVersions 115 = .ok (.ldc 189, 2) := by decide +kernel
theorem dX0_tellVersions_117 : decode cX0_tellVersions 117 = .ok (.invokevirtual 184, 3) := by decide +kernel
theorem dX0_tellVersions_120 : decode cX0_tellVersions 120 = .ok (.aload_n 0, 1) := by decide +kernel
theorem dX0_tellVersions_121 : decode cX0_tellVersions 121 = .ok (.iconst 2, 1) := by decide +kernel
theorem dX0_tellVersions_122 : decode cX0_tellVersions 122 = .ok (.bipush 11, 2) := by decide +kernel
theorem dX0_tellVersions_124 : decode cX0_tellVersions 124 = .ok (.ldc_w 267, 3) := by decide +kernel
theorem dX0_tellVersions_127 : decode cX0_tellVersions 127 = .ok (.ldc 189, 2) := by decide +kernel
theorem dX0_tellVersions_129 : decode cX0_tellVersions 129 = .ok (.invokevirtual 184, 3) := by decide +kernel
theorem dX0_tellVersions_132 : decode cX0_tellVersions 132 = .ok (.aload_n 0, 1) := by decide +kernel
theorem dX0_tellVersions_133 : decode cX0_tellVersions 133 = .ok (.iconst 2, 1) := by decide +kernel
theorem dX0_tellVersions_134 : decode cX0_tellVersions 134 = .ok (.bipush 12, 2) := by decide +kernel
theorem dX0_tellVersions_136 : decode cX0_tellVersions 136 = .ok (.ldc_w 269, 3) := by decide +kernel
theorem dX0_tellVersions_139 : decode cX0_tellVersions 139 = .ok (.ldc 189, 2) := by decide +kernel
theorem dX0_tellVersions_141 : decode cX0_tellVersions 141 = .ok (.invokevirtual 184, 3) := by decide +kernel
theorem dX0_tellVersions_144 : decode cX0_tellVersions 144 = .ok (.aload_n 0, 1) := by decide +kernel
theorem dX0_tellVersions_145 : decode cX0_tellVersions 145 = .ok (.iconst 2, 1) := by decide +kernel
theorem dX0_tellVersions_146 : decode cX0_tellVersions 146 = .ok (.bipush 13, 2) := by decide +kernel
theorem dX0_tellVersions_148 : decode cX0_tellVersions 148 = .ok (.ldc_w 271, 3) := by decide +kernel
theorem dX0_tellVersions_151 : decode cX0_tellVersions 151 = .ok (.ldc 189, 2) := by decide +kernel
theorem dX0_tellVersions_153 : decode cX0_tellVersions 153 = .ok (.invokevirtual 184, 3) := by decide +kernel
theorem dX0_tellVersions_156 : decode cX0_tellVersions 156 = .ok (.aload_n 0, 1) := by decide +kernel
theorem dX0_tellVersions_157 : decode cX0_tellVersions 157 = .ok (.iconst 2, 1) := by decide +kernel
theorem dX0_tellVersions_158 : decode cX0_tellVersions 158 = .ok (.bipush 14, 2) := by decide +kernel
theorem dX0_tellVersions_160 : decode cX0_tellVersions 160 = .ok (.ldc_w 273, 3) := by decide +kernel
theorem dX0_tellVersions_163 : decode cX0_tellVersions 163 = .ok (.ldc 207, 2) := by decide +kernel
theorem dX0_tellVersions_165 : decode cX0_tellVersions 165 = .ok (.invokevirtual 184, 3) := by decide +kernel
theorem dX0_tellVersions_168 : decode cX0_tellVersions 168 = .ok (.aload_n 0, 1) := by decide +kernel
theorem dX0_tellVersions_169 : decode cX0_tellVersions 169 = .ok (.iconst 2, 1) := by decide +kernel
theorem dX0_tellVersions_170 : decode cX0_tellVersions 170 = .ok (.bipush 15, 2) := by decide +kernel
theorem dX0_tellVersions_172 : decode cX0_tellVersions 172 = .ok (.ldc_w 275, 3) := by decide +kernel
theorem dX0_tellVersions_175 : decode cX0_tellVersions 175 = .ok (.ldc 207, 2) := by decide +kernel
theorem dX0_tellVersions_177 : decode cX0_tellVersions 177 = .ok (.invokevirtual 184, 3) := by decide +kernel
theorem dX0_tellVersions_180 : decode cX0_tellVersions 180 = .ok (.aload_n 0, 1) := by decide +kernel
theorem dX0_tellVersions_181 : decode cX0_tellVersions 181 = .ok (.iconst 2, 1) := by decide +kernel
theorem dX0_tellVersions_182 : decode cX0_tellVersions 182 = .ok (.bipush 16, 2) := by decide +kernel
theorem dX0_tellVersions_184 : decode cX0_tellVersions 184 = .ok (.ldc_w 277, 3) := by decide +kernel
theorem dX0_tellVersions_187 : decode cX0_tellVersions 187 = .ok (.ldc 207, 2) := by decide +kernel
theorem dX0_tellVersions_189 : decode cX0_tellVersions 189 = .ok (.invokevirtual 184, 3) := by decide +kernel
theorem dX0_tellVersions_192 : decode cX0_tellVersions 192 = .ok (.aload_n 0, 1) := by decide +kernel
theorem dX0_tellVersions_193 : decode cX0_tellVersions 193 = .ok (.iconst 2, 1) := by decide +kernel
theorem dX0_tellVersions_194 : decode cX0_tellVersions 194 = .ok (.bipush 17, 2) := by decide +kernel
theorem dX0_tellVersions_196 : decode cX0_tellVersions 196 = .ok (.ldc_w 279, 3) := by decide +kernel
theorem dX0_tellVersions_199 : decode cX0_tellVersions 199 = .ok (.ldc 195, 2) := by decide +kernel
theorem dX0_tellVersions_201 : decode cX0_tellVersions 201 = .ok (.invokevirtual 184, 3) := by decide +kernel
theorem dX0_tellVersions_204 : decode cX0_tellVersions 204 = .ok (.return_, 1) := by decide +kernel
abbrev cX0_tellValues : ByteArray := prog_1_method_5_code
def yX0_tellValues : MethodName := ⟨RX0, "tellValues", "()V"⟩
theorem dX0_tellValues_0 : decode cX0_tellValues 0 = .ok (.aload_n 0, 1) := by decide +kernel
theorem dX0_tellValues_1 : decode cX0_tellValues 1 = .ok (.iconst 3, 1) := by decide +kernel
theorem dX0_tellValues_2 : decode cX0_tellValues 2 = .ok (.iconst 0, 1) := by decide +kernel
theorem dX0_tellValues_3 : decode cX0_tellValues 3 = .ok (.ldc_w 281, 3) := by decide +kernel
theorem dX0_tellValues_6 : decode cX0_tellValues 6 = .ok (.ldc_w 283, 3) := by decide +kernel
theorem dX0_tellValues_9 : decode cX0_tellValues 9 = .ok (.invokevirtual 184, 3) := by decide +kernel
theorem dX0_tellValues_12 : decode cX0_tellValues 12 = .ok (.aload_n 0, 1) := by decide +kernel
theorem dX0_tellValues_13 : decode cX0_tellValues 13 = .ok (.iconst 3, 1) := by decide +kernel
theorem dX0_tellValues_14 : decode cX0_tellValues 14 = .ok (.iconst 1, 1) := by decide +kernel
theorem dX0_tellValues_15 : decode cX0_tellValues 15 = .ok (.ldc 253, 2) := by decide +kernel
theorem dX0_tellValues_17 : decode cX0_tellValues 17 = .ok (.ldc 207, 2) := by decide +kernel
theorem dX0_tellValues_19 : decode cX0_tellValues 19 = .ok (.invokevirtual 184, 3) := by decide +kernel
theorem dX0_tellValues_22 : decode cX0_tellValues 22 = .ok (.aload_n 0, 1) := by decide +kernel
theorem dX0_tellValues_23 : decode cX0_tellValues 23 = .ok (.iconst 3, 1) := by decide +kernel
theorem dX0_tellValues_24 : decode cX0_tellValues 24 = .ok (.iconst 2, 1) := by decide +kernel
theorem dX0_tellValues_25 : decode cX0_tellValues 25 = .ok (.ldc 135, 2) := by decide +kernel
theorem dX0_tellValues_27 : decode cX0_tellValues 27 = .ok (.ldc 189, 2) := by decide +kernel
theorem dX0_tellValues_29 : decode cX0_tellValues 29 = .ok (.invokevirtual 184, 3) := by decide +kernel
theorem dX0_tellValues_32 : decode cX0_tellValues 32 = .ok (.aload_n 0, 1) := by decide +kernel
theorem dX0_tellValues_33 : decode cX0_tellValues 33 = .ok (.iconst 3, 1) := by decide +kernel
theorem dX0_tellValues_34 : decode cX0_tellValues 34 = .ok (.iconst 3, 1) := by decide +kernel
theorem dX0_tellValues_35 : decode cX0_tellValues 35 = .ok (.ldc_w 285, 3) := by decide +kernel
theorem dX0_tellValues_38 : decode cX0_tellValues 38 = .ok (.ldc 207, 2) := by decide +kernel
theorem dX0_tellValues_40 : decode cX0_tellValues 40 = .ok (.invokevirtual 184, 3) := by decide +kernel
theorem dX0_tellValues_43 : decode cX0_tellValues 43 = .ok (.aload_n 0, 1) := by decide +kernel
theorem dX0_tellValues_44 : decode cX0_tellValues 44 = .ok (.iconst 3, 1) := by decide +kernel
theorem dX0_tellValues_45 : decode cX0_tellValues 45 = .ok (.iconst 4, 1) := by decide +kernel
theorem dX0_tellValues_46 : decode cX0_tellValues 46 = .ok (.ldc_w 287, 3) := by decide +kernel
theorem dX0_tellValues_49 : decode cX0_tellValues 49 = .ok (.ldc 195, 2) := by decide +kernel
theorem dX0_tellValues_51 : decode cX0_tellValues 51 = .ok (.invokevirtual 184, 3) := by decide +kernel
theorem dX0_tellValues_54 : decode cX0_tellValues 54 = .ok (.aload_n 0, 1) := by decide +kernel
theorem dX0_tellValues_55 : decode cX0_tellValues 55 = .ok (.iconst 3, 1) := by decide +kernel
theorem dX0_tellValues_56 : decode cX0_tellValues 56 = .ok (.iconst 5, 1) := by decide +kernel
theorem dX0_tellValues_57 : decode cX0_tellValues 57 = .ok (.ldc_w 289, 3) := by decide +kernel
theorem dX0_tellValues_60 : decode cX0_tellValues 60 = .ok (.ldc 195, 2) := by decide +kernel
theorem dX0_tellValues_62 : decode cX0_tellValues 62 = .ok (.invokevirtual 184, 3) := by decide +kernel
theorem dX0_tellValues_65 : decode cX0_tellValues 65 = .ok (.aload_n 0, 1) := by decide +kernel
theorem dX0_tellValues_66 : decode cX0_tellValues 66 = .ok (.iconst 3, 1) := by decide +kernel
theorem dX0_tellValues_67 : decode cX0_tellValues 67 = .ok (.bipush 6, 2) := by decide +kernel
theorem dX0_tellValues_69 : decode cX0_tellValues 69 = .ok (.ldc_w 291, 3) := by decide +kernel
theorem dX0_tellValues_72 : decode cX0_tellValues 72 = .ok (.ldc 195, 2) := by decide +kernel
theorem dX0_tellValues_74 : decode cX0_tellValues 74 = .ok (.invokevirtual 184, 3) := by decide +kernel
theorem dX0_tellValues_77 : decode cX0_tellValues 77 = .ok (.aload_n 0, 1) := by decide +kernel
theorem dX0_tellValues_78 : decode cX0_tellValues 78 = .ok (.iconst 3, 1) := by decide +kernel
theorem dX0_tellValues_79 : decode cX0_tellValues 79 = .ok (.bipush 7, 2) := by decide +kernel
theorem dX0_tellValues_81 : decode cX0_tellValues 81 = .ok (.ldc_w 293, 3) := by decide +kernel
theorem dX0_tellValues_84 : decode cX0_tellValues 84 = .ok (.ldc 207, 2) := by decide +kernel
theorem dX0_tellValues_86 : decode cX0_tellValues 86 = .ok (.invokevirtual 184, 3) := by decide +kernel
theorem dX0_tellValues_89 : decode cX0_tellValues 89 = .ok (.aload_n 0, 1) := by decide +kernel
theorem dX0_tellValues_90 : decode cX0_tellValues 90 = .ok (.iconst 3, 1) := by decide +kernel
theorem dX0_tellValues_91 : decode cX0_tellValues 91 = .ok (.bipush 8, 2) := by decide +kernel
theorem dX0_tellValues_93 : decode cX0_tellValues 93 = .ok (.ldc 255, 2) := by decide +kernel
theorem dX0_tellValues_95 : decode cX0_tellValues 95 = .ok (.ldc 207, 2) := by decide +kernel
theorem dX0_tellValues_97 : decode cX0_tellValues 97 = .ok (.invokevirtual 184, 3) := by decide +kernel
theorem dX0_tellValues_100 : decode cX0_tellValues 100 = .ok (.aload_n 0, 1) := by decide +kernel
theorem dX0_tellValues_101 : decode cX0_tellValues 101 = .ok (.iconst 3, 1) := by decide +kernel
theorem dX0_tellValues_102 : decode cX0_tellValues 102 = .ok (.bipush 9, 2) := by decide +kernel
theorem dX0_tellValues_104 : decode cX0_tellValues 104 = .ok (.ldc_w 295, 3) := by decide +kernel
theorem dX0_tellValues_107 : decode cX0_tellValues 107 = .ok (.ldc 203, 2) := by decide +kernel
theorem dX0_tellValues_109 : decode cX0_tellValues 109 = .ok (.invokevirtual 184, 3) := by decide +kernel
theorem dX0_tellValues_112 : decode cX0_tellValues 112 = .ok (.return_, 1) := by decide +kernel
abbrev cX0_tellProofs : ByteArray := prog_1_method_6_code
def yX0_tellProofs : MethodName := ⟨RX0, "tellProofs", "()V"⟩
theorem dX0_tellProofs_0 : decode cX0_tellProofs 0 = .ok (.aload_n 0, 1) := by decide +kernel
theorem dX0_tellProofs_1 : decode cX0_tellProofs 1 = .ok (.iconst 4, 1) := by decide +kernel
theorem dX0_tellProofs_2 : decode cX0_tellProofs 2 = .ok (.iconst 0, 1) := by decide +kernel
theorem dX0_tellProofs_3 : decode cX0_tellProofs 3 = .ok (.ldc_w 297, 3) := by decide +kernel
theorem dX0_tellProofs_6 : decode cX0_tellProofs 6 = .ok (.ldc 203, 2) := by decide +kernel
theorem dX0_tellProofs_8 : decode cX0_tellProofs 8 = .ok (.invokevirtual 184, 3) := by decide +kernel
theorem dX0_tellProofs_11 : decode cX0_tellProofs 11 = .ok (.aload_n 0, 1) := by decide +kernel
theorem dX0_tellProofs_12 : decode cX0_tellProofs 12 = .ok (.iconst 4, 1) := by decide +kernel
theorem dX0_tellProofs_13 : decode cX0_tellProofs 13 = .ok (.iconst 1, 1) := by decide +kernel
theorem dX0_tellProofs_14 : decode cX0_tellProofs 14 = .ok (.ldc 215, 2) := by decide +kernel
theorem dX0_tellProofs_16 : decode cX0_tellProofs 16 = .ok (.ldc 203, 2) := by decide +kernel
theorem dX0_tellProofs_18 : decode cX0_tellProofs 18 = .ok (.invokevirtual 184, 3) := by decide +kernel
theorem dX0_tellProofs_21 : decode cX0_tellProofs 21 = .ok (.aload_n 0, 1) := by decide +kernel
theorem dX0_tellProofs_22 : decode cX0_tellProofs 22 = .ok (.iconst 4, 1) := by decide +kernel
theorem dX0_tellProofs_23 : decode cX0_tellProofs 23 = .ok (.iconst 2, 1) := by decide +kernel
theorem dX0_tellProofs_24 : decode cX0_tellProofs 24 = .ok (.ldc_w 299, 3) := by decide +kernel
theorem dX0_tellProofs_27 : decode cX0_tellProofs 27 = .ok (.ldc 203, 2) := by decide +kernel
theorem dX0_tellProofs_29 : decode cX0_tellProofs 29 = .ok (.invokevirtual 184, 3) := by decide +kernel
theorem dX0_tellProofs_32 : decode cX0_tellProofs 32 = .ok (.aload_n 0, 1) := by decide +kernel
theorem dX0_tellProofs_33 : decode cX0_tellProofs 33 = .ok (.iconst 4, 1) := by decide +kernel
theorem dX0_tellProofs_34 : decode cX0_tellProofs 34 = .ok (.iconst 3, 1) := by decide +kernel
theorem dX0_tellProofs_35 : decode cX0_tellProofs 35 = .ok (.ldc_w 301, 3) := by decide +kernel
theorem dX0_tellProofs_38 : decode cX0_tellProofs 38 = .ok (.ldc 195, 2) := by decide +kernel
theorem dX0_tellProofs_40 : decode cX0_tellProofs 40 = .ok (.invokevirtual 184, 3) := by decide +kernel
theorem dX0_tellProofs_43 : decode cX0_tellProofs 43 = .ok (.aload_n 0, 1) := by decide +kernel
theorem dX0_tellProofs_44 : decode cX0_tellProofs 44 = .ok (.iconst 4, 1) := by decide +kernel
theorem dX0_tellProofs_45 : decode cX0_tellProofs 45 = .ok (.iconst 4, 1) := by decide +kernel
theorem dX0_tellProofs_46 : decode cX0_tellProofs 46 = .ok (.ldc_w 303, 3) := by decide +kernel
theorem dX0_tellProofs_49 : decode cX0_tellProofs 49 = .ok (.ldc 207, 2) := by decide +kernel
theorem dX0_tellProofs_51 : decode cX0_tellProofs 51 = .ok (.invokevirtual 184, 3) := by decide +kernel
theorem dX0_tellProofs_54 : decode cX0_tellProofs 54 = .ok (.aload_n 0, 1) := by decide +kernel
theorem dX0_tellProofs_55 : decode cX0_tellProofs 55 = .ok (.iconst 4, 1) := by decide +kernel
theorem dX0_tellProofs_56 : decode cX0_tellProofs 56 = .ok (.iconst 5, 1) := by decide +kernel
theorem dX0_tellProofs_57 : decode cX0_tellProofs 57 = .ok (.ldc_w 305, 3) := by decide +kernel
theorem dX0_tellProofs_60 : decode cX0_tellProofs 60 = .ok (.ldc 189, 2) := by decide +kernel
theorem dX0_tellProofs_62 : decode cX0_tellProofs 62 = .ok (.invokevirtual 184, 3) := by decide +kernel
theorem dX0_tellProofs_65 : decode cX0_tellProofs 65 = .ok (.aload_n 0, 1) := by decide +kernel
theorem dX0_tellProofs_66 : decode cX0_tellProofs 66 = .ok (.iconst 4, 1) := by decide +kernel
theorem dX0_tellProofs_67 : decode cX0_tellProofs 67 = .ok (.bipush 6, 2) := by decide +kernel
theorem dX0_tellProofs_69 : decode cX0_tellProofs 69 = .ok (.ldc_w 267, 3) := by decide +kernel
theorem dX0_tellProofs_72 : decode cX0_tellProofs 72 = .ok (.ldc 207, 2) := by decide +kernel
theorem dX0_tellProofs_74 : decode cX0_tellProofs 74 = .ok (.invokevirtual 184, 3) := by decide +kernel
theorem dX0_tellProofs_77 : decode cX0_tellProofs 77 = .ok (.aload_n 0, 1) := by decide +kernel
theorem dX0_tellProofs_78 : decode cX0_tellProofs 78 = .ok (.iconst 4, 1) := by decide +kernel
theorem dX0_tellProofs_79 : decode cX0_tellProofs 79 = .ok (.bipush 7, 2) := by decide +kernel
theorem dX0_tellProofs_81 : decode cX0_tellProofs 81 = .ok (.ldc_w 307, 3) := by decide +kernel
theorem dX0_tellProofs_84 : decode cX0_tellProofs 84 = .ok (.ldc 207, 2) := by decide +kernel
theorem dX0_tellProofs_86 : decode cX0_tellProofs 86 = .ok (.invokevirtual 184, 3) := by decide +kernel
theorem dX0_tellProofs_89 : decode cX0_tellProofs 89 = .ok (.aload_n 0, 1) := by decide +kernel
theorem dX0_tellProofs_90 : decode cX0_tellProofs 90 = .ok (.iconst 4, 1) := by decide +kernel
theorem dX0_tellProofs_91 : decode cX0_tellProofs 91 = .ok (.bipush 8, 2) := by decide +kernel
theorem dX0_tellProofs_93 : decode cX0_tellProofs 93 = .ok (.ldc 217, 2) := by decide +kernel
theorem dX0_tellProofs_95 : decode cX0_tellProofs 95 = .ok (.ldc 207, 2) := by decide +kernel
theorem dX0_tellProofs_97 : decode cX0_tellProofs 97 = .ok (.invokevirtual 184, 3) := by decide +kernel
theorem dX0_tellProofs_100 : decode cX0_tellProofs 100 = .ok (.aload_n 0, 1) := by decide +kernel
theorem dX0_tellProofs_101 : decode cX0_tellProofs 101 = .ok (.iconst 4, 1) := by decide +kernel
theorem dX0_tellProofs_102 : decode cX0_tellProofs 102 = .ok (.bipush 9, 2) := by decide +kernel
theorem dX0_tellProofs_104 : decode cX0_tellProofs 104 = .ok (.ldc 219, 2) := by decide +kernel
theorem dX0_tellProofs_106 : decode cX0_tellProofs 106 = .ok (.ldc 207, 2) := by decide +kernel
theorem dX0_tellProofs_108 : decode cX0_tellProofs 108 = .ok (.invokevirtual 184, 3) := by decide +kernel
theorem dX0_tellProofs_111 : decode cX0_tellProofs 111 = .ok (.aload_n 0, 1) := by decide +kernel
theorem dX0_tellProofs_112 : decode cX0_tellProofs 112 = .ok (.iconst 4, 1) := by decide +kernel
theorem dX0_tellProofs_113 : decode cX0_tellProofs 113 = .ok (.bipush 10, 2) := by decide +kernel
theorem dX0_tellProofs_115 : decode cX0_tellProofs 115 = .ok (.ldc_w 309, 3) := by decide +kernel
theorem dX0_tellProofs_118 : decode cX0_tellProofs 118 = .ok (.ldc 195, 2) := by decide +kernel
theorem dX0_tellProofs_120 : decode cX0_tellProofs 120 = .ok (.invokevirtual 184, 3) := by decide +kernel
theorem dX0_tellProofs_123 : decode cX0_tellProofs 123 = .ok (.aload_n 0, 1) := by decide +kernel
theorem dX0_tellProofs_124 : decode cX0_tellProofs 124 = .ok (.iconst 4, 1) := by decide +kernel
theorem dX0_tellProofs_125 : decode cX0_tellProofs 125 = .ok (.bipush 11, 2) := by decide +kernel
theorem dX0_tellProofs_127 : decode cX0_tellProofs 127 = .ok (.ldc_w 311, 3) := by decide +kernel
theorem dX0_tellProofs_130 : decode cX0_tellProofs 130 = .ok (.ldc 207, 2) := by decide +kernel
theorem dX0_tellProofs_132 : decode cX0_tellProofs 132 = .ok (.invokevirtual 184, 3) := by decide +kernel
theorem dX0_tellProofs_135 : decode cX0_tellProofs 135 = .ok (.aload_n 0, 1) := by decide +kernel
theorem dX0_tellProofs_136 : decode cX0_tellProofs 136 = .ok (.iconst 4, 1) := by decide +kernel
theorem dX0_tellProofs_137 : decode cX0_tellProofs 137 = .ok (.bipush 12, 2) := by decide +kernel
theorem dX0_tellProofs_139 : decode cX0_tellProofs 139 = .ok (.ldc_w 313, 3) := by decide +kernel
theorem dX0_tellProofs_142 : decode cX0_tellProofs 142 = .ok (.ldc 207, 2) := by decide +kernel
theorem dX0_tellProofs_144 : decode cX0_tellProofs 144 = .ok (.invokevirtual 184, 3) := by decide +kernel
theorem dX0_tellProofs_147 : decode cX0_tellProofs 147 = .ok (.aload_n 0, 1) := by decide +kernel
theorem dX0_tellProofs_148 : decode cX0_tellProofs 148 = .ok (.iconst 4, 1) := by decide +kernel
theorem dX0_tellProofs_149 : decode cX0_tellProofs 149 = .ok (.bipush 13, 2) := by decide +kernel
theorem dX0_tellProofs_151 : decode cX0_tellProofs 151 = .ok (.ldc_w 315, 3) := by decide +kernel
theorem dX0_tellProofs_154 : decode cX0_tellProofs 154 = .ok (.ldc 195, 2) := by decide +kernel
theorem dX0_tellProofs_156 : decode cX0_tellProofs 156 = .ok (.invokevirtual 184, 3) := by decide +kernel
theorem dX0_tellProofs_159 : decode cX0_tellProofs 159 = .ok (.return_, 1) := by decide +kernel
abbrev cX0_tellRights : ByteArray := prog_1_method_7_code
def yX0_tellRights : MethodName := ⟨RX0, "tellRights", "()V"⟩
theorem dX0_tellRights_0 : decode cX0_tellRights 0 = .ok (.aload_n 0, 1) := by decide +kernel
theorem dX0_tellRights_1 : decode cX0_tellRights 1 = .ok (.iconst 5, 1) := by decide +kernel
theorem dX0_tellRights_2 : decode cX0_tellRights 2 = .ok (.iconst 0, 1) := by decide +kernel
theorem dX0_tellRights_3 : decode cX0_tellRights 3 = .ok (.ldc_w 317, 3) := by decide +kernel
theorem dX0_tellRights_6 : decode cX0_tellRights 6 = .ok (.ldc 182, 2) := by decide +kernel
theorem dX0_tellRights_8 : decode cX0_tellRights 8 = .ok (.invokevirtual 184, 3) := by decide +kernel
theorem dX0_tellRights_11 : decode cX0_tellRights 11 = .ok (.aload_n 0, 1) := by decide +kernel
theorem dX0_tellRights_12 : decode cX0_tellRights 12 = .ok (.iconst 5, 1) := by decide +kernel
theorem dX0_tellRights_13 : decode cX0_tellRights 13 = .ok (.iconst 1, 1) := by decide +kernel
theorem dX0_tellRights_14 : decode cX0_tellRights 14 = .ok (.ldc_w 319, 3) := by decide +kernel
theorem dX0_tellRights_17 : decode cX0_tellRights 17 = .ok (.ldc_w 321, 3) := by decide +kernel
theorem dX0_tellRights_20 : decode cX0_tellRights 20 = .ok (.invokevirtual 184, 3) := by decide +kernel
theorem dX0_tellRights_23 : decode cX0_tellRights 23 = .ok (.aload_n 0, 1) := by decide +kernel
theorem dX0_tellRights_24 : decode cX0_tellRights 24 = .ok (.iconst 5, 1) := by decide +kernel
theorem dX0_tellRights_25 : decode cX0_tellRights 25 = .ok (.iconst 2, 1) := by decide +kernel
theorem dX0_tellRights_26 : decode cX0_tellRights 26 = .ok (.ldc_w 323, 3) := by decide +kernel
theorem dX0_tellRights_29 : decode cX0_tellRights 29 = .ok (.ldc_w 325, 3) := by decide +kernel
theorem dX0_tellRights_32 : decode cX0_tellRights 32 = .ok (.invokevirtual 184, 3) := by decide +kernel
theorem dX0_tellRights_35 : decode cX0_tellRights 35 = .ok (.aload_n 0, 1) := by decide +kernel
theorem dX0_tellRights_36 : decode cX0_tellRights 36 = .ok (.iconst 5, 1) := by decide +kernel
theorem dX0_tellRights_37 : decode cX0_tellRights 37 = .ok (.iconst 3, 1) := by decide +kernel
theorem dX0_tellRights_38 : decode cX0_tellRights 38 = .ok (.ldc 217, 2) := by decide +kernel
theorem dX0_tellRights_40 : decode cX0_tellRights 40 = .ok (.ldc 207, 2) := by decide +kernel
theorem dX0_tellRights_42 : decode cX0_tellRights 42 = .ok (.invokevirtual 184, 3) := by decide +kernel
theorem dX0_tellRights_45 : decode cX0_tellRights 45 = .ok (.aload_n 0, 1) := by decide +kernel
theorem dX0_tellRights_46 : decode cX0_tellRights 46 = .ok (.iconst 5, 1) := by decide +kernel
theorem dX0_tellRights_47 : decode cX0_tellRights 47 = .ok (.iconst 4, 1) := by decide +kernel
theorem dX0_tellRights_48 : decode cX0_tellRights 48 = .ok (.ldc_w 327, 3) := by decide +kernel
theorem dX0_tellRights_51 : decode cX0_tellRights 51 = .ok (.ldc_w 329, 3) := by decide +kernel
theorem dX0_tellRights_54 : decode cX0_tellRights 54 = .ok (.invokevirtual 184, 3) := by decide +kernel
theorem dX0_tellRights_57 : decode cX0_tellRights 57 = .ok (.aload_n 0, 1) := by decide +kernel
theorem dX0_tellRights_58 : decode cX0_tellRights 58 = .ok (.iconst 5, 1) := by decide +kernel
theorem dX0_tellRights_59 : decode cX0_tellRights 59 = .ok (.iconst 5, 1) := by decide +kernel
theorem dX0_tellRights_60 : decode cX0_tellRights 60 = .ok (.ldc_w 331, 3) := by decide +kernel
theorem dX0_tellRights_63 : decode cX0_tellRights 63 = .ok (.ldc 207, 2) := by decide +kernel
theorem dX0_tellRights_65 : decode cX0_tellRights 65 = .ok (.invokevirtual 184, 3) := by decide +kernel
theorem dX0_tellRights_68 : decode cX0_tellRights 68 = .ok (.aload_n 0, 1) := by decide +kernel
theorem dX0_tellRights_69 : decode cX0_tellRights 69 = .ok (.iconst 5, 1) := by decide +kernel
theorem dX0_tellRights_70 : decode cX0_tellRights 70 = .ok (.bipush 6, 2) := by decide +kernel
theorem dX0_tellRights_72 : decode cX0_tellRights 72 = .ok (.ldc_w 333, 3) := by decide +kernel
theorem dX0_tellRights_75 : decode cX0_tellRights 75 = .ok (.ldc 195, 2) := by decide +kernel
theorem dX0_tellRights_77 : decode cX0_tellRights 77 = .ok (.invokevirtual 184, 3) := by decide +kernel
theorem dX0_tellRights_80 : decode cX0_tellRights 80 = .ok (.aload_n 0, 1) := by decide +kernel
theorem dX0_tellRights_81 : decode cX0_tellRights 81 = .ok (.iconst 5, 1) := by decide +kernel
theorem dX0_tellRights_82 : decode cX0_tellRights 82 = .ok (.bipush 7, 2) := by decide +kernel
theorem dX0_tellRights_84 : decode cX0_tellRights 84 = .ok (.ldc_w 335, 3) := by decide +kernel
theorem dX0_tellRights_87 : decode cX0_tellRights 87 = .ok (.ldc 195, 2) := by decide +kernel
theorem dX0_tellRights_89 : decode cX0_tellRights 89 = .ok (.invokevirtual 184, 3) := by decide +kernel
theorem dX0_tellRights_92 : decode cX0_tellRights 92 = .ok (.aload_n 0, 1) := by decide +kernel
theorem dX0_tellRights_93 : decode cX0_tellRights 93 = .ok (.iconst 5, 1) := by decide +kernel
theorem dX0_tellRights_94 : decode cX0_tellRights 94 = .ok (.bipush 8, 2) := by decide +kernel
theorem dX0_tellRights_96 : decode cX0_tellRights 96 = .ok (.ldc_w 337, 3) := by decide +kernel
theorem dX0_tellRights_99 : decode cX0_tellRights 99 = .ok (.ldc 207, 2) := by decide +kernel
theorem dX0_tellRights_101 : decode cX0_tellRights 101 = .ok (.invokevirtual 184, 3) := by decide +kernel
theorem dX0_tellRights_104 : decode cX0_tellRights 104 = .ok (.aload_n 0, 1) := by decide +kernel
theorem dX0_tellRights_105 : decode cX0_tellRights 105 = .ok (.iconst 5, 1) := by decide +kernel
theorem dX0_tellRights_106 : decode cX0_tellRights 106 = .ok (.bipush 9, 2) := by decide +kernel
theorem dX0_tellRights_108 : decode cX0_tellRights 108 = .ok (.ldc_w 339, 3) := by decide +kernel
theorem dX0_tellRights_111 : decode cX0_tellRights 111 = .ok (.ldc 195, 2) := by decide +kernel
theorem dX0_tellRights_113 : decode cX0_tellRights 113 = .ok (.invokevirtual 184, 3) := by decide +kernel
theorem dX0_tellRights_116 : decode cX0_tellRights 116 = .ok (.aload_n 0, 1) := by decide +kernel
theorem dX0_tellRights_117 : decode cX0_tellRights 117 = .ok (.iconst 5, 1) := by decide +kernel
theorem dX0_tellRights_118 : decode cX0_tellRights 118 = .ok (.bipush 10, 2) := by decide +kernel
theorem dX0_tellRights_120 : decode cX0_tellRights 120 = .ok (.ldc_w 341, 3) := by decide +kernel
theorem dX0_tellRights_123 : decode cX0_tellRights 123 = .ok (.ldc 207, 2) := by decide +kernel
theorem dX0_tellRights_125 : decode cX0_tellRights 125 = .ok (.invokevirtual 184, 3) := by decide +kernel
theorem dX0_tellRights_128 : decode cX0_tellRights 128 = .ok (.aload_n 0, 1) := by decide +kernel
theorem dX0_tellRights_129 : decode cX0_tellRights 129 = .ok (.iconst 5, 1) := by decide +kernel
theorem dX0_tellRights_130 : decode cX0_tellRights 130 = .ok (.bipush 11, 2) := by decide +kernel
theorem dX0_tellRights_132 : decode cX0_tellRights 132 = .ok (.ldc_w 343, 3) := by decide +kernel
theorem dX0_tellRights_135 : decode cX0_tellRights 135 = .ok (.ldc_w 345, 3) := by decide +kernel
theorem dX0_tellRights_138 : decode cX0_tellRights 138 = .ok (.invokevirtual 184, 3) := by decide +kernel
theorem dX0_tellRights_141 : decode cX0_tellRights 141 = .ok (.aload_n 0, 1) := by decide +kernel
theorem dX0_tellRights_142 : decode cX0_tellRights 142 = .ok (.iconst 5, 1) := by decide +kernel
theorem dX0_tellRights_143 : decode cX0_tellRights 143 = .ok (.bipush 12, 2) := by decide +kernel
theorem dX0_tellRights_145 : decode cX0_tellRights 145 = .ok (.ldc_w 347, 3) := by decide +kernel
theorem dX0_tellRights_148 : decode cX0_tellRights 148 = .ok (.ldc 195, 2) := by decide +kernel
theorem dX0_tellRights_150 : decode cX0_tellRights 150 = .ok (.invokevirtual 184, 3) := by decide +kernel
theorem dX0_tellRights_153 : decode cX0_tellRights 153 = .ok (.aload_n 0, 1) := by decide +kernel
theorem dX0_tellRights_154 : decode cX0_tellRights 154 = .ok (.iconst 5, 1) := by decide +kernel
theorem dX0_tellRights_155 : decode cX0_tellRights 155 = .ok (.bipush 13, 2) := by decide +kernel
theorem dX0_tellRights_157 : decode cX0_tellRights 157 = .ok (.ldc_w 349, 3) := by decide +kernel
theorem dX0_tellRights_160 : decode cX0_tellRights 160 = .ok (.ldc 189, 2) := by decide +kernel
theorem dX0_tellRights_162 : decode cX0_tellRights 162 = .ok (.invokevirtual 184, 3) := by decide +kernel
theorem dX0_tellRights_165 : decode cX0_tellRights 165 = .ok (.aload_n 0, 1) := by decide +kernel
theorem dX0_tellRights_166 : decode cX0_tellRights 166 = .ok (.iconst 5, 1) := by decide +kernel
theorem dX0_tellRights_167 : decode cX0_tellRights 167 = .ok (.bipush 14, 2) := by decide +kernel
theorem dX0_tellRights_169 : decode cX0_tellRights 169 = .ok (.ldc_w 351, 3) := by decide +kernel
theorem dX0_tellRights_172 : decode cX0_tellRights 172 = .ok (.ldc 189, 2) := by decide +kernel
theorem dX0_tellRights_174 : decode cX0_tellRights 174 = .ok (.invokevirtual 184, 3) := by decide +kernel
theorem dX0_tellRights_177 : decode cX0_tellRights 177 = .ok (.aload_n 0, 1) := by decide +kernel
theorem dX0_tellRights_178 : decode cX0_tellRights 178 = .ok (.iconst 5, 1) := by decide +kernel
theorem dX0_tellRights_179 : decode cX0_tellRights 179 = .ok (.bipush 15, 2) := by decide +kernel
theorem dX0_tellRights_181 : decode cX0_tellRights 181 = .ok (.ldc 141, 2) := by decide +kernel
theorem dX0_tellRights_183 : decode cX0_tellRights 183 = .ok (.ldc 189, 2) := by decide +kernel
theorem dX0_tellRights_185 : decode cX0_tellRights 185 = .ok (.invokevirtual 184, 3) := by decide +kernel
theorem dX0_tellRights_188 : decode cX0_tellRights 188 = .ok (.return_, 1) := by decide +kernel
abbrev cX0_tellClasses : ByteArray := prog_1_method_8_code
def yX0_tellClasses : MethodName := ⟨RX0, "tellClasses", "()V"⟩
theorem dX0_tellClasses_0 : decode cX0_tellClasses 0 = .ok (.aload_n 0, 1) := by decide +kernel
theorem dX0_tellClasses_1 : decode cX0_tellClasses 1 = .ok (.bipush 6, 2) := by decide +kernel
theorem dX0_tellClasses_3 : decode cX0_tellClasses 3 = .ok (.iconst 0, 1) := by decide +kernel
theorem dX0_tellClasses_4 : decode cX0_tellClasses 4 = .ok (.ldc_w 353, 3) := by decide +kernel
theorem dX0_tellClasses_7 : decode cX0_tellClasses 7 = .ok (.ldc 189, 2) := by decide +kernel
theorem dX0_tellClasses_9 : decode cX0_tellClasses 9 = .ok (.invokevirtual 184, 3) := by decide +kernel
theorem dX0_tellClasses_12 : decode cX0_tellClasses 12 = .ok (.aload_n 0, 1) := by decide +kernel
theorem dX0_tellClasses_13 : decode cX0_tellClasses 13 = .ok (.bipush 6, 2) := by decide +kernel
theorem dX0_tellClasses_15 : decode cX0_tellClasses 15 = .ok (.iconst 1, 1) := by decide +kernel
theorem dX0_tellClasses_16 : decode cX0_tellClasses 16 = .ok (.ldc_w 355, 3) := by decide +kernel
theorem dX0_tellClasses_19 : decode cX0_tellClasses 19 = .ok (.ldc 189, 2) := by decide +kernel
theorem dX0_tellClasses_21 : decode cX0_tellClasses 21 = .ok (.invokevirtual 184, 3) := by decide +kernel
theorem dX0_tellClasses_24 : decode cX0_tellClasses 24 = .ok (.aload_n 0, 1) := by decide +kernel
theorem dX0_tellClasses_25 : decode cX0_tellClasses 25 = .ok (.bipush 6, 2) := by decide +kernel
theorem dX0_tellClasses_27 : decode cX0_tellClasses 27 = .ok (.iconst 2, 1) := by decide +kernel
theorem dX0_tellClasses_28 : decode cX0_tellClasses 28 = .ok (.ldc_w 297, 3) := by decide +kernel
theorem dX0_tellClasses_31 : decode cX0_tellClasses 31 = .ok (.ldc 203, 2) := by decide +kernel
theorem dX0_tellClasses_33 : decode cX0_tellClasses 33 = .ok (.invokevirtual 184, 3) := by decide +kernel
theorem dX0_tellClasses_36 : decode cX0_tellClasses 36 = .ok (.aload_n 0, 1) := by decide +kernel
theorem dX0_tellClasses_37 : decode cX0_tellClasses 37 = .ok (.bipush 6, 2) := by decide +kernel
theorem dX0_tellClasses_39 : decode cX0_tellClasses 39 = .ok (.iconst 3, 1) := by decide +kernel
theorem dX0_tellClasses_40 : decode cX0_tellClasses 40 = .ok (.ldc_w 357, 3) := by decide +kernel
theorem dX0_tellClasses_43 : decode cX0_tellClasses 43 = .ok (.ldc 207, 2) := by decide +kernel
theorem dX0_tellClasses_45 : decode cX0_tellClasses 45 = .ok (.invokevirtual 184, 3) := by decide +kernel
theorem dX0_tellClasses_48 : decode cX0_tellClasses 48 = .ok (.aload_n 0, 1) := by decide +kernel
theorem dX0_tellClasses_49 : decode cX0_tellClasses 49 = .ok (.bipush 6, 2) := by decide +kernel
theorem dX0_tellClasses_51 : decode cX0_tellClasses 51 = .ok (.iconst 4, 1) := by decide +kernel
theorem dX0_tellClasses_52 : decode cX0_tellClasses 52 = .ok (.ldc_w 359, 3) := by decide +kernel
theorem dX0_tellClasses_55 : decode cX0_tellClasses 55 = .ok (.ldc 207, 2) := by decide +kernel
theorem dX0_tellClasses_57 : decode cX0_tellClasses 57 = .ok (.invokevirtual 184, 3) := by decide +kernel
theorem dX0_tellClasses_60 : decode cX0_tellClasses 60 = .ok (.aload_n 0, 1) := by decide +kernel
theorem dX0_tellClasses_61 : decode cX0_tellClasses 61 = .ok (.bipush 6, 2) := by decide +kernel
theorem dX0_tellClasses_63 : decode cX0_tellClasses 63 = .ok (.iconst 5, 1) := by decide +kernel
theorem dX0_tellClasses_64 : decode cX0_tellClasses 64 = .ok (.ldc_w 361, 3) := by decide +kernel
theorem dX0_tellClasses_67 : decode cX0_tellClasses 67 = .ok (.ldc 195, 2) := by decide +kernel
theorem dX0_tellClasses_69 : decode cX0_tellClasses 69 = .ok (.invokevirtual 184, 3) := by decide +kernel
theorem dX0_tellClasses_72 : decode cX0_tellClasses 72 = .ok (.aload_n 0, 1) := by decide +kernel
theorem dX0_tellClasses_73 : decode cX0_tellClasses 73 = .ok (.bipush 6, 2) := by decide +kernel
theorem dX0_tellClasses_75 : decode cX0_tellClasses 75 = .ok (.bipush 6, 2) := by decide +kernel
theorem dX0_tellClasses_77 : decode cX0_tellClasses 77 = .ok (.ldc_w 333, 3) := by decide +kernel
theorem dX0_tellClasses_80 : decode cX0_tellClasses 80 = .ok (.ldc 195, 2) := by decide +kernel
theorem dX0_tellClasses_82 : decode cX0_tellClasses 82 = .ok (.invokevirtual 184, 3) := by decide +kernel
theorem dX0_tellClasses_85 : decode cX0_tellClasses 85 = .ok (.aload_n 0, 1) := by decide +kernel
theorem dX0_tellClasses_86 : decode cX0_tellClasses 86 = .ok (.bipush 6, 2) := by decide +kernel
theorem dX0_tellClasses_88 : decode cX0_tellClasses 88 = .ok (.bipush 7, 2) := by decide +kernel
theorem dX0_tellClasses_90 : decode cX0_tellClasses 90 = .ok (.ldc_w 363, 3) := by decide +kernel
theorem dX0_tellClasses_93 : decode cX0_tellClasses 93 = .ok (.ldc 189, 2) := by decide +kernel
theorem dX0_tellClasses_95 : decode cX0_tellClasses 95 = .ok (.invokevirtual 184, 3) := by decide +kernel
theorem dX0_tellClasses_98 : decode cX0_tellClasses 98 = .ok (.aload_n 0, 1) := by decide +kernel
theorem dX0_tellClasses_99 : decode cX0_tellClasses 99 = .ok (.bipush 6, 2) := by decide +kernel
theorem dX0_tellClasses_101 : decode cX0_tellClasses 101 = .ok (.bipush 8, 2) := by decide +kernel
theorem dX0_tellClasses_103 : decode cX0_tellClasses 103 = .ok (.ldc_w 365, 3) := by decide +kernel
theorem dX0_tellClasses_106 : decode cX0_tellClasses 106 = .ok (.ldc 195, 2) := by decide +kernel
theorem dX0_tellClasses_108 : decode cX0_tellClasses 108 = .ok (.invokevirtual 184, 3) := by decide +kernel
theorem dX0_tellClasses_111 : decode cX0_tellClasses 111 = .ok (.aload_n 0, 1) := by decide +kernel
theorem dX0_tellClasses_112 : decode cX0_tellClasses 112 = .ok (.bipush 6, 2) := by decide +kernel
theorem dX0_tellClasses_114 : decode cX0_tellClasses 114 = .ok (.bipush 9, 2) := by decide +kernel
theorem dX0_tellClasses_116 : decode cX0_tellClasses 116 = .ok (.ldc_w 367, 3) := by decide +kernel
theorem dX0_tellClasses_119 : decode cX0_tellClasses 119 = .ok (.ldc 195, 2) := by decide +kernel
theorem dX0_tellClasses_121 : decode cX0_tellClasses 121 = .ok (.invokevirtual 184, 3) := by decide +kernel
theorem dX0_tellClasses_124 : decode cX0_tellClasses 124 = .ok (.aload_n 0, 1) := by decide +kernel
theorem dX0_tellClasses_125 : decode cX0_tellClasses 125 = .ok (.bipush 6, 2) := by decide +kernel
theorem dX0_tellClasses_127 : decode cX0_tellClasses 127 = .ok (.bipush 10, 2) := by decide +kernel
theorem dX0_tellClasses_129 : decode cX0_tellClasses 129 = .ok (.ldc 239, 2) := by decide +kernel
theorem dX0_tellClasses_131 : decode cX0_tellClasses 131 = .ok (.ldc 195, 2) := by decide +kernel
theorem dX0_tellClasses_133 : decode cX0_tellClasses 133 = .ok (.invokevirtual 184, 3) := by decide +kernel
theorem dX0_tellClasses_136 : decode cX0_tellClasses 136 = .ok (.aload_n 0, 1) := by decide +kernel
theorem dX0_tellClasses_137 : decode cX0_tellClasses 137 = .ok (.bipush 6, 2) := by decide +kernel
theorem dX0_tellClasses_139 : decode cX0_tellClasses 139 = .ok (.bipush 11, 2) := by decide +kernel
theorem dX0_tellClasses_141 : decode cX0_tellClasses 141 = .ok (.ldc_w 369, 3) := by decide +kernel
theorem dX0_tellClasses_144 : decode cX0_tellClasses 144 = .ok (.ldc 207, 2) := by decide +kernel
theorem dX0_tellClasses_146 : decode cX0_tellClasses 146 = .ok (.invokevirtual 184, 3) := by decide +kernel
theorem dX0_tellClasses_149 : decode cX0_tellClasses 149 = .ok (.aload_n 0, 1) := by decide +kernel
theorem dX0_tellClasses_150 : decode cX0_tellClasses 150 = .ok (.bipush 6, 2) := by decide +kernel
theorem dX0_tellClasses_152 : decode cX0_tellClasses 152 = .ok (.bipush 12, 2) := by decide +kernel
theorem dX0_tellClasses_154 : decode cX0_tellClasses 154 = .ok (.ldc_w 371, 3) := by decide +kernel
theorem dX0_tellClasses_157 : decode cX0_tellClasses 157 = .ok (.ldc 207, 2) := by decide +kernel
theorem dX0_tellClasses_159 : decode cX0_tellClasses 159 = .ok (.invokevirtual 184, 3) := by decide +kernel
theorem dX0_tellClasses_162 : decode cX0_tellClasses 162 = .ok (.aload_n 0, 1) := by decide +kernel
theorem dX0_tellClasses_163 : decode cX0_tellClasses 163 = .ok (.bipush 6, 2) := by decide +kernel
theorem dX0_tellClasses_165 : decode cX0_tellClasses 165 = .ok (.bipush 13, 2) := by decide +kernel
theorem dX0_tellClasses_167 : decode cX0_tellClasses 167 = .ok (.ldc 249, 2) := by decide +kernel
theorem dX0_tellClasses_169 : decode cX0_tellClasses 169 = .ok (.ldc 195, 2) := by decide +kernel
theorem dX0_tellClasses_171 : decode cX0_tellClasses 171 = .ok (.invokevirtual 184, 3) := by decide +kernel
theorem dX0_tellClasses_174 : decode cX0_tellClasses 174 = .ok (.aload_n 0, 1) := by decide +kernel
theorem dX0_tellClasses_175 : decode cX0_tellClasses 175 = .ok (.bipush 6, 2) := by decide +kernel
theorem dX0_tellClasses_177 : decode cX0_tellClasses 177 = .ok (.bipush 14, 2) := by decide +kernel
theorem dX0_tellClasses_179 : decode cX0_tellClasses 179 = .ok (.ldc_w 281, 3) := by decide +kernel
theorem dX0_tellClasses_182 : decode cX0_tellClasses 182 = .ok (.ldc 195, 2) := by decide +kernel
theorem dX0_tellClasses_184 : decode cX0_tellClasses 184 = .ok (.invokevirtual 184, 3) := by decide +kernel
theorem dX0_tellClasses_187 : decode cX0_tellClasses 187 = .ok (.aload_n 0, 1) := by decide +kernel
theorem dX0_tellClasses_188 : decode cX0_tellClasses 188 = .ok (.bipush 6, 2) := by decide +kernel
theorem dX0_tellClasses_190 : decode cX0_tellClasses 190 = .ok (.bipush 15, 2) := by decide +kernel
theorem dX0_tellClasses_192 : decode cX0_tellClasses 192 = .ok (.ldc_w 373, 3) := by decide +kernel
theorem dX0_tellClasses_195 : decode cX0_tellClasses 195 = .ok (.ldc 203, 2) := by decide +kernel
theorem dX0_tellClasses_197 : decode cX0_tellClasses 197 = .ok (.invokevirtual 184, 3) := by decide +kernel
theorem dX0_tellClasses_200 : decode cX0_tellClasses 200 = .ok (.aload_n 0, 1) := by decide +kernel
theorem dX0_tellClasses_201 : decode cX0_tellClasses 201 = .ok (.bipush 6, 2) := by decide +kernel
theorem dX0_tellClasses_203 : decode cX0_tellClasses 203 = .ok (.bipush 16, 2) := by decide +kernel
theorem dX0_tellClasses_205 : decode cX0_tellClasses 205 = .ok (.ldc_w 375, 3) := by decide +kernel
theorem dX0_tellClasses_208 : decode cX0_tellClasses 208 = .ok (.ldc 207, 2) := by decide +kernel
theorem dX0_tellClasses_210 : decode cX0_tellClasses 210 = .ok (.invokevirtual 184, 3) := by decide +kernel
theorem dX0_tellClasses_213 : decode cX0_tellClasses 213 = .ok (.return_, 1) := by decide +kernel
abbrev cX0_tellFacets : ByteArray := prog_1_method_9_code
def yX0_tellFacets : MethodName := ⟨RX0, "tellFacets", "()V"⟩
theorem dX0_tellFacets_0 : decode cX0_tellFacets 0 = .ok (.aload_n 0, 1) := by decide +kernel
theorem dX0_tellFacets_1 : decode cX0_tellFacets 1 = .ok (.bipush 7, 2) := by decide +kernel
theorem dX0_tellFacets_3 : decode cX0_tellFacets 3 = .ok (.iconst 0, 1) := by decide +kernel
theorem dX0_tellFacets_4 : decode cX0_tellFacets 4 = .ok (.ldc_w 299, 3) := by decide +kernel
theorem dX0_tellFacets_7 : decode cX0_tellFacets 7 = .ok (.ldc 203, 2) := by decide +kernel
theorem dX0_tellFacets_9 : decode cX0_tellFacets 9 = .ok (.invokevirtual 184, 3) := by decide +kernel
theorem dX0_tellFacets_12 : decode cX0_tellFacets 12 = .ok (.aload_n 0, 1) := by decide +kernel
theorem dX0_tellFacets_13 : decode cX0_tellFacets 13 = .ok (.bipush 7, 2) := by decide +kernel
theorem dX0_tellFacets_15 : decode cX0_tellFacets 15 = .ok (.iconst 1, 1) := by decide +kernel
theorem dX0_tellFacets_16 : decode cX0_tellFacets 16 = .ok (.ldc 217, 2) := by decide +kernel
theorem dX0_tellFacets_18 : decode cX0_tellFacets 18 = .ok (.ldc 203, 2) := by decide +kernel
theorem dX0_tellFacets_20 : decode cX0_tellFacets 20 = .ok (.invokevirtual 184, 3) := by decide +kernel
theorem dX0_tellFacets_23 : decode cX0_tellFacets 23 = .ok (.aload_n 0, 1) := by decide +kernel
theorem dX0_tellFacets_24 : decode cX0_tellFacets 24 = .ok (.bipush 7, 2) := by decide +kernel
theorem dX0_tellFacets_26 : decode cX0_tellFacets 26 = .ok (.iconst 2, 1) := by decide +kernel
theorem dX0_tellFacets_27 : decode cX0_tellFacets 27 = .ok (.ldc_w 377, 3) := by decide +kernel
theorem dX0_tellFacets_30 : decode cX0_tellFacets 30 = .ok (.ldc 195, 2) := by decide +kernel
theorem dX0_tellFacets_32 : decode cX0_tellFacets 32 = .ok (.invokevirtual 184, 3) := by decide +kernel
theorem dX0_tellFacets_35 : decode cX0_tellFacets 35 = .ok (.aload_n 0, 1) := by decide +kernel
theorem dX0_tellFacets_36 : decode cX0_tellFacets 36 = .ok (.bipush 7, 2) := by decide +kernel
theorem dX0_tellFacets_38 : decode cX0_tellFacets 38 = .ok (.iconst 3, 1) := by decide +kernel
theorem dX0_tellFacets_39 : decode cX0_tellFacets 39 = .ok (.ldc_w 379, 3) := by decide +kernel
theorem dX0_tellFacets_42 : decode cX0_tellFacets 42 = .ok (.ldc 182, 2) := by decide +kernel
theorem dX0_tellFacets_44 : decode cX0_tellFacets 44 = .ok (.invokevirtual 184, 3) := by decide +kernel
theorem dX0_tellFacets_47 : decode cX0_tellFacets 47 = .ok (.aload_n 0, 1) := by decide +kernel
theorem dX0_tellFacets_48 : decode cX0_tellFacets 48 = .ok (.bipush 7, 2) := by decide +kernel
theorem dX0_tellFacets_50 : decode cX0_tellFacets 50 = .ok (.iconst 4, 1) := by decide +kernel
theorem dX0_tellFacets_51 : decode cX0_tellFacets 51 = .ok (.ldc_w 381, 3) := by decide +kernel
theorem dX0_tellFacets_54 : decode cX0_tellFacets 54 = .ok (.ldc 189, 2) := by decide +kernel
theorem dX0_tellFacets_56 : decode cX0_tellFacets 56 = .ok (.invokevirtual 184, 3) := by decide +kernel
theorem dX0_tellFacets_59 : decode cX0_tellFacets 59 = .ok (.aload_n 0, 1) := by decide +kernel
theorem dX0_tellFacets_60 : decode cX0_tellFacets 60 = .ok (.bipush 7, 2) := by decide +kernel
theorem dX0_tellFacets_62 : decode cX0_tellFacets 62 = .ok (.iconst 5, 1) := by decide +kernel
theorem dX0_tellFacets_63 : decode cX0_tellFacets 63 = .ok (.ldc_w 383, 3) := by decide +kernel
theorem dX0_tellFacets_66 : decode cX0_tellFacets 66 = .ok (.ldc 207, 2) := by decide +kernel
theorem dX0_tellFacets_68 : decode cX0_tellFacets 68 = .ok (.invokevirtual 184, 3) := by decide +kernel
theorem dX0_tellFacets_71 : decode cX0_tellFacets 71 = .ok (.aload_n 0, 1) := by decide +kernel
theorem dX0_tellFacets_72 : decode cX0_tellFacets 72 = .ok (.bipush 7, 2) := by decide +kernel
theorem dX0_tellFacets_74 : decode cX0_tellFacets 74 = .ok (.bipush 6, 2) := by decide +kernel
theorem dX0_tellFacets_76 : decode cX0_tellFacets 76 = .ok (.ldc_w 385, 3) := by decide +kernel
theorem dX0_tellFacets_79 : decode cX0_tellFacets 79 = .ok (.ldc 195, 2) := by decide +kernel
theorem dX0_tellFacets_81 : decode cX0_tellFacets 81 = .ok (.invokevirtual 184, 3) := by decide +kernel
theorem dX0_tellFacets_84 : decode cX0_tellFacets 84 = .ok (.aload_n 0, 1) := by decide +kernel
theorem dX0_tellFacets_85 : decode cX0_tellFacets 85 = .ok (.bipush 7, 2) := by decide +kernel
theorem dX0_tellFacets_87 : decode cX0_tellFacets 87 = .ok (.bipush 7, 2) := by decide +kernel
theorem dX0_tellFacets_89 : decode cX0_tellFacets 89 = .ok (.ldc_w 387, 3) := by decide +kernel
theorem dX0_tellFacets_92 : decode cX0_tellFacets 92 = .ok (.ldc 195, 2) := by decide +kernel
theorem dX0_tellFacets_94 : decode cX0_tellFacets 94 = .ok (.invokevirtual 184, 3) := by decide +kernel
theorem dX0_tellFacets_97 : decode cX0_tellFacets 97 = .ok (.aload_n 0, 1) := by decide +kernel
theorem dX0_tellFacets_98 : decode cX0_tellFacets 98 = .ok (.bipush 7, 2) := by decide +kernel
theorem dX0_tellFacets_100 : decode cX0_tellFacets 100 = .ok (.bipush 8, 2) := by decide +kernel
theorem dX0_tellFacets_102 : decode cX0_tellFacets 102 = .ok (.ldc_w 389, 3) := by decide +kernel
theorem dX0_tellFacets_105 : decode cX0_tellFacets 105 = .ok (.ldc 203, 2) := by decide +kernel
theorem dX0_tellFacets_107 : decode cX0_tellFacets 107 = .ok (.invokevirtual 184, 3) := by decide +kernel
theorem dX0_tellFacets_110 : decode cX0_tellFacets 110 = .ok (.aload_n 0, 1) := by decide +kernel
theorem dX0_tellFacets_111 : decode cX0_tellFacets 111 = .ok (.bipush 7, 2) := by decide +kernel
theorem dX0_tellFacets_113 : decode cX0_tellFacets 113 = .ok (.bipush 9, 2) := by decide +kernel
theorem dX0_tellFacets_115 : decode cX0_tellFacets 115 = .ok (.ldc_w 391, 3) := by decide +kernel
theorem dX0_tellFacets_118 : decode cX0_tellFacets 118 = .ok (.ldc 203, 2) := by decide +kernel
theorem dX0_tellFacets_120 : decode cX0_tellFacets 120 = .ok (.invokevirtual 184, 3) := by decide +kernel
theorem dX0_tellFacets_123 : decode cX0_tellFacets 123 = .ok (.aload_n 0, 1) := by decide +kernel
theorem dX0_tellFacets_124 : decode cX0_tellFacets 124 = .ok (.bipush 7, 2) := by decide +kernel
theorem dX0_tellFacets_126 : decode cX0_tellFacets 126 = .ok (.bipush 10, 2) := by decide +kernel
theorem dX0_tellFacets_128 : decode cX0_tellFacets 128 = .ok (.ldc_w 393, 3) := by decide +kernel
theorem dX0_tellFacets_131 : decode cX0_tellFacets 131 = .ok (.ldc 189, 2) := by decide +kernel
theorem dX0_tellFacets_133 : decode cX0_tellFacets 133 = .ok (.invokevirtual 184, 3) := by decide +kernel
theorem dX0_tellFacets_136 : decode cX0_tellFacets 136 = .ok (.aload_n 0, 1) := by decide +kernel
theorem dX0_tellFacets_137 : decode cX0_tellFacets 137 = .ok (.bipush 7, 2) := by decide +kernel
theorem dX0_tellFacets_139 : decode cX0_tellFacets 139 = .ok (.bipush 11, 2) := by decide +kernel
theorem dX0_tellFacets_141 : decode cX0_tellFacets 141 = .ok (.ldc_w 267, 3) := by decide +kernel
theorem dX0_tellFacets_144 : decode cX0_tellFacets 144 = .ok (.ldc 189, 2) := by decide +kernel
theorem dX0_tellFacets_146 : decode cX0_tellFacets 146 = .ok (.invokevirtual 184, 3) := by decide +kernel
theorem dX0_tellFacets_149 : decode cX0_tellFacets 149 = .ok (.return_, 1) := by decide +kernel
abbrev cX0_tellTables : ByteArray := prog_1_method_10_code
def yX0_tellTables : MethodName := ⟨RX0, "tellTables", "()V"⟩
theorem dX0_tellTables_0 : decode cX0_tellTables 0 = .ok (.aload_n 0, 1) := by decide +kernel
theorem dX0_tellTables_1 : decode cX0_tellTables 1 = .ok (.bipush 8, 2) := by decide +kernel
theorem dX0_tellTables_3 : decode cX0_tellTables 3 = .ok (.iconst 0, 1) := by decide +kernel
theorem dX0_tellTables_4 : decode cX0_tellTables 4 = .ok (.ldc_w 395, 3) := by decide +kernel
theorem dX0_tellTables_7 : decode cX0_tellTables 7 = .ok (.ldc 182, 2) := by decide +kernel
theorem dX0_tellTables_9 : decode cX0_tellTables 9 = .ok (.invokevirtual 184, 3) := by decide +kernel
theorem dX0_tellTables_12 : decode cX0_tellTables 12 = .ok (.aload_n 0, 1) := by decide +kernel
theorem dX0_tellTables_13 : decode cX0_tellTables 13 = .ok (.bipush 8, 2) := by decide +kernel
theorem dX0_tellTables_15 : decode cX0_tellTables 15 = .ok (.iconst 1, 1) := by decide +kernel
theorem dX0_tellTables_16 : decode cX0_tellTables 16 = .ok (.ldc_w 299, 3) := by decide +kernel
theorem dX0_tellTables_19 : decode cX0_tellTables 19 = .ok (.ldc_w 321, 3) := by decide +kernel
theorem dX0_tellTables_22 : decode cX0_tellTables 22 = .ok (.invokevirtual 184, 3) := by decide +kernel
theorem dX0_tellTables_25 : decode cX0_tellTables 25 = .ok (.aload_n 0, 1) := by decide +kernel
theorem dX0_tellTables_26 : decode cX0_tellTables 26 = .ok (.bipush 8, 2) := by decide +kernel
theorem dX0_tellTables_28 : decode cX0_tellTables 28 = .ok (.iconst 2, 1) := by decide +kernel
theorem dX0_tellTables_29 : decode cX0_tellTables 29 = .ok (.ldc 217, 2) := by decide +kernel
theorem dX0_tellTables_31 : decode cX0_tellTables 31 = .ok (.ldc 195, 2) := by decide +kernel
theorem dX0_tellTables_33 : decode cX0_tellTables 33 = .ok (.invokevirtual 184, 3) := by decide +kernel
theorem dX0_tellTables_36 : decode cX0_tellTables 36 = .ok (.aload_n 0, 1) := by decide +kernel
theorem dX0_tellTables_37 : decode cX0_tellTables 37 = .ok (.bipush 8, 2) := by decide +kernel
theorem dX0_tellTables_39 : decode cX0_tellTables 39 = .ok (.iconst 3, 1) := by decide +kernel
theorem dX0_tellTables_40 : decode cX0_tellTables 40 = .ok (.ldc_w 397, 3) := by decide +kernel
theorem dX0_tellTables_43 : decode cX0_tellTables 43 = .ok (.ldc_w 329, 3) := by decide +kernel
theorem dX0_tellTables_46 : decode cX0_tellTables 46 = .ok (.invokevirtual 184, 3) := by decide +kernel
theorem dX0_tellTables_49 : decode cX0_tellTables 49 = .ok (.aload_n 0, 1) := by decide +kernel
theorem dX0_tellTables_50 : decode cX0_tellTables 50 = .ok (.bipush 8, 2) := by decide +kernel
theorem dX0_tellTables_52 : decode cX0_tellTables 52 = .ok (.iconst 4, 1) := by decide +kernel
theorem dX0_tellTables_53 : decode cX0_tellTables 53 = .ok (.ldc 241, 2) := by decide +kernel
theorem dX0_tellTables_55 : decode cX0_tellTables 55 = .ok (.ldc 189, 2) := by decide +kernel
theorem dX0_tellTables_57 : decode cX0_tellTables 57 = .ok (.invokevirtual 184, 3) := by decide +kernel
theorem dX0_tellTables_60 : decode cX0_tellTables 60 = .ok (.aload_n 0, 1) := by decide +kernel
theorem dX0_tellTables_61 : decode cX0_tellTables 61 = .ok (.bipush 8, 2) := by decide +kernel
theorem dX0_tellTables_63 : decode cX0_tellTables 63 = .ok (.iconst 5, 1) := by decide +kernel
theorem dX0_tellTables_64 : decode cX0_tellTables 64 = .ok (.ldc_w 399, 3) := by decide +kernel
theorem dX0_tellTables_67 : decode cX0_tellTables 67 = .ok (.ldc 203, 2) := by decide +kernel
theorem dX0_tellTables_69 : decode cX0_tellTables 69 = .ok (.invokevirtual 184, 3) := by decide +kernel
theorem dX0_tellTables_72 : decode cX0_tellTables 72 = .ok (.aload_n 0, 1) := by decide +kernel
theorem dX0_tellTables_73 : decode cX0_tellTables 73 = .ok (.bipush 8, 2) := by decide +kernel
theorem dX0_tellTables_75 : decode cX0_tellTables 75 = .ok (.bipush 6, 2) := by decide +kernel
theorem dX0_tellTables_77 : decode cX0_tellTables 77 = .ok (.ldc_w 401, 3) := by decide +kernel
theorem dX0_tellTables_80 : decode cX0_tellTables 80 = .ok (.ldc 203, 2) := by decide +kernel
theorem dX0_tellTables_82 : decode cX0_tellTables 82 = .ok (.invokevirtual 184, 3) := by decide +kernel
theorem dX0_tellTables_85 : decode cX0_tellTables 85 = .ok (.aload_n 0, 1) := by decide +kernel
theorem dX0_tellTables_86 : decode cX0_tellTables 86 = .ok (.bipush 8, 2) := by decide +kernel
theorem dX0_tellTables_88 : decode cX0_tellTables 88 = .ok (.bipush 7, 2) := by decide +kernel
theorem dX0_tellTables_90 : decode cX0_tellTables 90 = .ok (.ldc_w 403, 3) := by decide +kernel
theorem dX0_tellTables_93 : decode cX0_tellTables 93 = .ok (.ldc 189, 2) := by decide +kernel
theorem dX0_tellTables_95 : decode cX0_tellTables 95 = .ok (.invokevirtual 184, 3) := by decide +kernel
theorem dX0_tellTables_98 : decode cX0_tellTables 98 = .ok (.aload_n 0, 1) := by decide +kernel
theorem dX0_tellTables_99 : decode cX0_tellTables 99 = .ok (.bipush 8, 2) := by decide +kernel
theorem dX0_tellTables_101 : decode cX0_tellTables 101 = .ok (.bipush 8, 2) := by decide +kernel
theorem dX0_tellTables_103 : decode cX0_tellTables 103 = .ok (.ldc_w 405, 3) := by decide +kernel
theorem dX0_tellTables_106 : decode cX0_tellTables 106 = .ok (.ldc 189, 2) := by decide +kernel
theorem dX0_tellTables_108 : decode cX0_tellTables 108 = .ok (.invokevirtual 184, 3) := by decide +kernel
theorem dX0_tellTables_111 : decode cX0_tellTables 111 = .ok (.aload_n 0, 1) := by decide +kernel
theorem dX0_tellTables_112 : decode cX0_tellTables 112 = .ok (.bipush 8, 2) := by decide +kernel
theorem dX0_tellTables_114 : decode cX0_tellTables 114 = .ok (.bipush 9, 2) := by decide +kernel
theorem dX0_tellTables_116 : decode cX0_tellTables 116 = .ok (.ldc_w 407, 3) := by decide +kernel
theorem dX0_tellTables_119 : decode cX0_tellTables 119 = .ok (.ldc 195, 2) := by decide +kernel
theorem dX0_tellTables_121 : decode cX0_tellTables 121 = .ok (.invokevirtual 184, 3) := by decide +kernel
theorem dX0_tellTables_124 : decode cX0_tellTables 124 = .ok (.aload_n 0, 1) := by decide +kernel
theorem dX0_tellTables_125 : decode cX0_tellTables 125 = .ok (.bipush 8, 2) := by decide +kernel
theorem dX0_tellTables_127 : decode cX0_tellTables 127 = .ok (.bipush 10, 2) := by decide +kernel
theorem dX0_tellTables_129 : decode cX0_tellTables 129 = .ok (.ldc_w 409, 3) := by decide +kernel
theorem dX0_tellTables_132 : decode cX0_tellTables 132 = .ok (.ldc 207, 2) := by decide +kernel
theorem dX0_tellTables_134 : decode cX0_tellTables 134 = .ok (.invokevirtual 184, 3) := by decide +kernel
theorem dX0_tellTables_137 : decode cX0_tellTables 137 = .ok (.aload_n 0, 1) := by decide +kernel
theorem dX0_tellTables_138 : decode cX0_tellTables 138 = .ok (.bipush 8, 2) := by decide +kernel
theorem dX0_tellTables_140 : decode cX0_tellTables 140 = .ok (.bipush 11, 2) := by decide +kernel
theorem dX0_tellTables_142 : decode cX0_tellTables 142 = .ok (.ldc_w 363, 3) := by decide +kernel
theorem dX0_tellTables_145 : decode cX0_tellTables 145 = .ok (.ldc 189, 2) := by decide +kernel
theorem dX0_tellTables_147 : decode cX0_tellTables 147 = .ok (.invokevirtual 184, 3) := by decide +kernel
theorem dX0_tellTables_150 : decode cX0_tellTables 150 = .ok (.aload_n 0, 1) := by decide +kernel
theorem dX0_tellTables_151 : decode cX0_tellTables 151 = .ok (.bipush 8, 2) := by decide +kernel
theorem dX0_tellTables_153 : decode cX0_tellTables 153 = .ok (.bipush 12, 2) := by decide +kernel
theorem dX0_tellTables_155 : decode cX0_tellTables 155 = .ok (.ldc_w 411, 3) := by decide +kernel
theorem dX0_tellTables_158 : decode cX0_tellTables 158 = .ok (.ldc 195, 2) := by decide +kernel
theorem dX0_tellTables_160 : decode cX0_tellTables 160 = .ok (.invokevirtual 184, 3) := by decide +kernel
theorem dX0_tellTables_163 : decode cX0_tellTables 163 = .ok (.aload_n 0, 1) := by decide +kernel
theorem dX0_tellTables_164 : decode cX0_tellTables 164 = .ok (.bipush 8, 2) := by decide +kernel
theorem dX0_tellTables_166 : decode cX0_tellTables 166 = .ok (.bipush 13, 2) := by decide +kernel
theorem dX0_tellTables_168 : decode cX0_tellTables 168 = .ok (.ldc_w 413, 3) := by decide +kernel
theorem dX0_tellTables_171 : decode cX0_tellTables 171 = .ok (.ldc 195, 2) := by decide +kernel
theorem dX0_tellTables_173 : decode cX0_tellTables 173 = .ok (.invokevirtual 184, 3) := by decide +kernel
theorem dX0_tellTables_176 : decode cX0_tellTables 176 = .ok (.return_, 1) := by decide +kernel
abbrev cX0_tellRules : ByteArray := prog_1_method_11_code
def yX0_tellRules : MethodName := ⟨RX0, "tellRules", "()V"⟩
theorem dX0_tellRules_0 : decode cX0_tellRules 0 = .ok (.aload_n 0, 1) := by decide +kernel
theorem dX0_tellRules_1 : decode cX0_tellRules 1 = .ok (.bipush 9, 2) := by decide +kernel
theorem dX0_tellRules_3 : decode cX0_tellRules 3 = .ok (.iconst 0, 1) := by decide +kernel
theorem dX0_tellRules_4 : decode cX0_tellRules 4 = .ok (.ldc_w 415, 3) := by decide +kernel
theorem dX0_tellRules_7 : decode cX0_tellRules 7 = .ok (.ldc 203, 2) := by decide +kernel
theorem dX0_tellRules_9 : decode cX0_tellRules 9 = .ok (.invokevirtual 184, 3) := by decide +kernel
theorem dX0_tellRules_12 : decode cX0_tellRules 12 = .ok (.aload_n 0, 1) := by decide +kernel
theorem dX0_tellRules_13 : decode cX0_tellRules 13 = .ok (.bipush 9, 2) := by decide +kernel
theorem dX0_tellRules_15 : decode cX0_tellRules 15 = .ok (.iconst 1, 1) := by decide +kernel
theorem dX0_tellRules_16 : decode cX0_tellRules 16 = .ok (.ldc_w 357, 3) := by decide +kernel
theorem dX0_tellRules_19 : decode cX0_tellRules 19 = .ok (.ldc 203, 2) := by decide +kernel
theorem dX0_tellRules_21 : decode cX0_tellRules 21 = .ok (.invokevirtual 184, 3) := by decide +kernel
theorem dX0_tellRules_24 : decode cX0_tellRules 24 = .ok (.aload_n 0, 1) := by decide +kernel
theorem dX0_tellRules_25 : decode cX0_tellRules 25 = .ok (.bipush 9, 2) := by decide +kernel
theorem dX0_tellRules_27 : decode cX0_tellRules 27 = .ok (.iconst 2, 1) := by decide +kernel
theorem dX0_tellRules_28 : decode cX0_tellRules 28 = .ok (.ldc_w 323, 3) := by decide +kernel
theorem dX0_tellRules_31 : decode cX0_tellRules 31 = .ok (.ldc 203, 2) := by decide +kernel
theorem dX0_tellRules_33 : decode cX0_tellRules 33 = .ok (.invokevirtual 184, 3) := by decide +kernel
theorem dX0_tellRules_36 : decode cX0_tellRules 36 = .ok (.aload_n 0, 1) := by decide +kernel
theorem dX0_tellRules_37 : decode cX0_tellRules 37 = .ok (.bipush 9, 2) := by decide +kernel
theorem dX0_tellRules_39 : decode cX0_tellRules 39 = .ok (.iconst 3, 1) := by decide +kernel
theorem dX0_tellRules_40 : decode cX0_tellRules 40 = .ok (.ldc_w 417, 3) := by decide +kernel
theorem dX0_tellRules_43 : decode cX0_tellRules 43 = .ok (.ldc_w 419, 3) := by decide +kernel
theorem dX0_tellRules_46 : decode cX0_tellRules 46 = .ok (.invokevirtual 184, 3) := by decide +kernel
theorem dX0_tellRules_49 : decode cX0_tellRules 49 = .ok (.aload_n 0, 1) := by decide +kernel
theorem dX0_tellRules_50 : decode cX0_tellRules 50 = .ok (.bipush 9, 2) := by decide +kernel
theorem dX0_tellRules_52 : decode cX0_tellRules 52 = .ok (.iconst 4, 1) := by decide +kernel
theorem dX0_tellRules_53 : decode cX0_tellRules 53 = .ok (.ldc_w 421, 3) := by decide +kernel
theorem dX0_tellRules_56 : decode cX0_tellRules 56 = .ok (.ldc_w 321, 3) := by decide +kernel
theorem dX0_tellRules_59 : decode cX0_tellRules 59 = .ok (.invokevirtual 184, 3) := by decide +kernel
theorem dX0_tellRules_62 : decode cX0_tellRules 62 = .ok (.aload_n 0, 1) := by decide +kernel
theorem dX0_tellRules_63 : decode cX0_tellRules 63 = .ok (.bipush 9, 2) := by decide +kernel
theorem dX0_tellRules_65 : decode cX0_tellRules 65 = .ok (.iconst 5, 1) := by decide +kernel
theorem dX0_tellRules_66 : decode cX0_tellRules 66 = .ok (.ldc_w 423, 3) := by decide +kernel
theorem dX0_tellRules_69 : decode cX0_tellRules 69 = .ok (.ldc 203, 2) := by decide +kernel
theorem dX0_tellRules_71 : decode cX0_tellRules 71 = .ok (.invokevirtual 184, 3) := by decide +kernel
theorem dX0_tellRules_74 : decode cX0_tellRules 74 = .ok (.aload_n 0, 1) := by decide +kernel
theorem dX0_tellRules_75 : decode cX0_tellRules 75 = .ok (.bipush 9, 2) := by decide +kernel
theorem dX0_tellRules_77 : decode cX0_tellRules 77 = .ok (.bipush 6, 2) := by decide +kernel
theorem dX0_tellRules_79 : decode cX0_tellRules 79 = .ok (.ldc 217, 2) := by decide +kernel
theorem dX0_tellRules_81 : decode cX0_tellRules 81 = .ok (.ldc 207, 2) := by decide +kernel
theorem dX0_tellRules_83 : decode cX0_tellRules 83 = .ok (.invokevirtual 184, 3) := by decide +kernel
theorem dX0_tellRules_86 : decode cX0_tellRules 86 = .ok (.aload_n 0, 1) := by decide +kernel
theorem dX0_tellRules_87 : decode cX0_tellRules 87 = .ok (.bipush 9, 2) := by decide +kernel
theorem dX0_tellRules_89 : decode cX0_tellRules 89 = .ok (.bipush 7, 2) := by decide +kernel
theorem dX0_tellRules_91 : decode cX0_tellRules 91 = .ok (.ldc_w 425, 3) := by decide +kernel
theorem dX0_tellRules_94 : decode cX0_tellRules 94 = .ok (.ldc 207, 2) := by decide +kernel
theorem dX0_tellRules_96 : decode cX0_tellRules 96 = .ok (.invokevirtual 184, 3) := by decide +kernel
theorem dX0_tellRules_99 : decode cX0_tellRules 99 = .ok (.aload_n 0, 1) := by decide +kernel
theorem dX0_tellRules_100 : decode cX0_tellRules 100 = .ok (.bipush 9, 2) := by decide +kernel
theorem dX0_tellRules_102 : decode cX0_tellRules 102 = .ok (.bipush 8, 2) := by decide +kernel
theorem dX0_tellRules_104 : decode cX0_tellRules 104 = .ok (.ldc_w 363, 3) := by decide +kernel
theorem dX0_tellRules_107 : decode cX0_tellRules 107 = .ok (.ldc 189, 2) := by decide +kernel
theorem dX0_tellRules_109 : decode cX0_tellRules 109 = .ok (.invokevirtual 184, 3) := by decide +kernel
theorem dX0_tellRules_112 : decode cX0_tellRules 112 = .ok (.aload_n 0, 1) := by decide +kernel
theorem dX0_tellRules_113 : decode cX0_tellRules 113 = .ok (.bipush 9, 2) := by decide +kernel
theorem dX0_tellRules_115 : decode cX0_tellRules 115 = .ok (.bipush 9, 2) := by decide +kernel
theorem dX0_tellRules_117 : decode cX0_tellRules 117 = .ok (.ldc_w 427, 3) := by decide +kernel
theorem dX0_tellRules_120 : decode cX0_tellRules 120 = .ok (.ldc 207, 2) := by decide +kernel
theorem dX0_tellRules_122 : decode cX0_tellRules 122 = .ok (.invokevirtual 184, 3) := by decide +kernel
theorem dX0_tellRules_125 : decode cX0_tellRules 125 = .ok (.aload_n 0, 1) := by decide +kernel
theorem dX0_tellRules_126 : decode cX0_tellRules 126 = .ok (.bipush 9, 2) := by decide +kernel
theorem dX0_tellRules_128 : decode cX0_tellRules 128 = .ok (.bipush 10, 2) := by decide +kernel
theorem dX0_tellRules_130 : decode cX0_tellRules 130 = .ok (.ldc_w 429, 3) := by decide +kernel
theorem dX0_tellRules_133 : decode cX0_tellRules 133 = .ok (.ldc 203, 2) := by decide +kernel
theorem dX0_tellRules_135 : decode cX0_tellRules 135 = .ok (.invokevirtual 184, 3) := by decide +kernel
theorem dX0_tellRules_138 : decode cX0_tellRules 138 = .ok (.aload_n 0, 1) := by decide +kernel
theorem dX0_tellRules_139 : decode cX0_tellRules 139 = .ok (.bipush 9, 2) := by decide +kernel
theorem dX0_tellRules_141 : decode cX0_tellRules 141 = .ok (.bipush 11, 2) := by decide +kernel
theorem dX0_tellRules_143 : decode cX0_tellRules 143 = .ok (.ldc_w 431, 3) := by decide +kernel
theorem dX0_tellRules_146 : decode cX0_tellRules 146 = .ok (.ldc 203, 2) := by decide +kernel
theorem dX0_tellRules_148 : decode cX0_tellRules 148 = .ok (.invokevirtual 184, 3) := by decide +kernel
theorem dX0_tellRules_151 : decode cX0_tellRules 151 = .ok (.aload_n 0, 1) := by decide +kernel
theorem dX0_tellRules_152 : decode cX0_tellRules 152 = .ok (.bipush 9, 2) := by decide +kernel
theorem dX0_tellRules_154 : decode cX0_tellRules 154 = .ok (.bipush 12, 2) := by decide +kernel
theorem dX0_tellRules_156 : decode cX0_tellRules 156 = .ok (.ldc_w 433, 3) := by decide +kernel
theorem dX0_tellRules_159 : decode cX0_tellRules 159 = .ok (.ldc 203, 2) := by decide +kernel
theorem dX0_tellRules_161 : decode cX0_tellRules 161 = .ok (.invokevirtual 184, 3) := by decide +kernel
theorem dX0_tellRules_164 : decode cX0_tellRules 164 = .ok (.aload_n 0, 1) := by decide +kernel
theorem dX0_tellRules_165 : decode cX0_tellRules 165 = .ok (.bipush 9, 2) := by decide +kernel
theorem dX0_tellRules_167 : decode cX0_tellRules 167 = .ok (.bipush 13, 2) := by decide +kernel
theorem dX0_tellRules_169 : decode cX0_tellRules 169 = .ok (.ldc_w 299, 3) := by decide +kernel
theorem dX0_tellRules_172 : decode cX0_tellRules 172 = .ok (.ldc 207, 2) := by decide +kernel
theorem dX0_tellRules_174 : decode cX0_tellRules 174 = .ok (.invokevirtual 184, 3) := by decide +kernel
theorem dX0_tellRules_177 : decode cX0_tellRules 177 = .ok (.aload_n 0, 1) := by decide +kernel
theorem dX0_tellRules_178 : decode cX0_tellRules 178 = .ok (.bipush 9, 2) := by decide +kernel
theorem dX0_tellRules_180 : decode cX0_tellRules 180 = .ok (.bipush 14, 2) := by decide +kernel
theorem dX0_tellRules_182 : decode cX0_tellRules 182 = .ok (.ldc_w 307, 3) := by decide +kernel
theorem dX0_tellRules_185 : decode cX0_tellRules 185 = .ok (.ldc 189, 2) := by decide +kernel
theorem dX0_tellRules_187 : decode cX0_tellRules 187 = .ok (.invokevirtual 184, 3) := by decide +kernel
theorem dX0_tellRules_190 : decode cX0_tellRules 190 = .ok (.return_, 1) := by decide +kernel
abbrev cX0_tellRewrite : ByteArray := prog_1_method_12_code
def yX0_tellRewrite : MethodName := ⟨RX0, "tellRewrite", "()V"⟩
theorem dX0_tellRewrite_0 : decode cX0_tellRewrite 0 = .ok (.aload_n 0, 1) := by decide +kernel
theorem dX0_tellRewrite_1 : decode cX0_tellRewrite 1 = .ok (.bipush 10, 2) := by decide +kernel
theorem dX0_tellRewrite_3 : decode cX0_tellRewrite 3 = .ok (.iconst 0, 1) := by decide +kernel
theorem dX0_tellRewrite_4 : decode cX0_tellRewrite 4 = .ok (.ldc_w 297, 3) := by decide +kernel
theorem dX0_tellRewrite_7 : decode cX0_tellRewrite 7 = .ok (.ldc 203, 2) := by decide +kernel
theorem dX0_tellRewrite_9 : decode cX0_tellRewrite 9 = .ok (.invokevirtual 184, 3) := by decide +kernel
theorem dX0_tellRewrite_12 : decode cX0_tellRewrite 12 = .ok (.aload_n 0, 1) := by decide +kernel
theorem dX0_tellRewrite_13 : decode cX0_tellRewrite 13 = .ok (.bipush 10, 2) := by decide +kernel
theorem dX0_tellRewrite_15 : decode cX0_tellRewrite 15 = .ok (.iconst 1, 1) := by decide +kernel
theorem dX0_tellRewrite_16 : decode cX0_tellRewrite 16 = .ok (.ldc_w 415, 3) := by decide +kernel
theorem dX0_tellRewrite_19 : decode cX0_tellRewrite 19 = .ok (.ldc_w 435, 3) := by decide +kernel
theorem dX0_tellRewrite_22 : decode cX0_tellRewrite 22 = .ok (.invokevirtual 184, 3) := by decide +kernel
theorem dX0_tellRewrite_25 : decode cX0_tellRewrite 25 = .ok (.aload_n 0, 1) := by decide +kernel
theorem dX0_tellRewrite_26 : decode cX0_tellRewrite 26 = .ok (.bipush 10, 2) := by decide +kernel
theorem dX0_tellRewrite_28 : decode cX0_tellRewrite 28 = .ok (.iconst 2, 1) := by decide +kernel
theorem dX0_tellRewrite_29 : decode cX0_tellRewrite 29 = .ok (.ldc_w 437, 3) := by decide +kernel
theorem dX0_tellRewrite_32 : decode cX0_tellRewrite 32 = .ok (.ldc_w 435, 3) := by decide +kernel
theorem dX0_tellRewrite_35 : decode cX0_tellRewrite 35 = .ok (.invokevirtual 184, 3) := by decide +kernel
theorem dX0_tellRewrite_38 : decode cX0_tellRewrite 38 = .ok (.aload_n 0, 1) := by decide +kernel
theorem dX0_tellRewrite_39 : decode cX0_tellRewrite 39 = .ok (.bipush 10, 2) := by decide +kernel
theorem dX0_tellRewrite_41 : decode cX0_tellRewrite 41 = .ok (.iconst 3, 1) := by decide +kernel
theorem dX0_tellRewrite_42 : decode cX0_tellRewrite 42 = .ok (.ldc_w 439, 3) := by decide +kernel
theorem dX0_tellRewrite_45 : decode cX0_tellRewrite 45 = .ok (.ldc 207, 2) := by decide +kernel
theorem dX0_tellRewrite_47 : decode cX0_tellRewrite 47 = .ok (.invokevirtual 184, 3) := by decide +kernel
theorem dX0_tellRewrite_50 : decode cX0_tellRewrite 50 = .ok (.aload_n 0, 1) := by decide +kernel
theorem dX0_tellRewrite_51 : decode cX0_tellRewrite 51 = .ok (.bipush 10, 2) := by decide +kernel
theorem dX0_tellRewrite_53 : decode cX0_tellRewrite 53 = .ok (.iconst 4, 1) := by decide +kernel
theorem dX0_tellRewrite_54 : decode cX0_tellRewrite 54 = .ok (.ldc_w 399, 3) := by decide +kernel
theorem dX0_tellRewrite_57 : decode cX0_tellRewrite 57 = .ok (.ldc_w 441, 3) := by decide +kernel
theorem dX0_tellRewrite_60 : decode cX0_tellRewrite 60 = .ok (.invokevirtual 184, 3) := by decide +kernel
theorem dX0_tellRewrite_63 : decode cX0_tellRewrite 63 = .ok (.aload_n 0, 1) := by decide +kernel
theorem dX0_tellRewrite_64 : decode cX0_tellRewrite 64 = .ok (.bipush 10, 2) := by decide +kernel
theorem dX0_tellRewrite_66 : decode cX0_tellRewrite 66 = .ok (.iconst 5, 1) := by decide +kernel
theorem dX0_tellRewrite_67 : decode cX0_tellRewrite 67 = .ok (.ldc_w 443, 3) := by decide +kernel
theorem dX0_tellRewrite_70 : decode cX0_tellRewrite 70 = .ok (.ldc 207, 2) := by decide +kernel
theorem dX0_tellRewrite_72 : decode cX0_tellRewrite 72 = .ok (.invokevirtual 184, 3) := by decide +kernel
theorem dX0_tellRewrite_75 : decode cX0_tellRewrite 75 = .ok (.aload_n 0, 1) := by decide +kernel
theorem dX0_tellRewrite_76 : decode cX0_tellRewrite 76 = .ok (.bipush 10, 2) := by decide +kernel
theorem dX0_tellRewrite_78 : decode cX0_tellRewrite 78 = .ok (.bipush 6, 2) := by decide +kernel
theorem dX0_tellRewrite_80 : decode cX0_tellRewrite 80 = .ok (.ldc 225, 2) := by decide +kernel
theorem dX0_tellRewrite_82 : decode cX0_tellRewrite 82 = .ok (.ldc 203, 2) := by decide +kernel
theorem dX0_tellRewrite_84 : decode cX0_tellRewrite 84 = .ok (.invokevirtual 184, 3) := by decide +kernel
theorem dX0_tellRewrite_87 : decode cX0_tellRewrite 87 = .ok (.aload_n 0, 1) := by decide +kernel
theorem dX0_tellRewrite_88 : decode cX0_tellRewrite 88 = .ok (.bipush 10, 2) := by decide +kernel
theorem dX0_tellRewrite_90 : decode cX0_tellRewrite 90 = .ok (.bipush 7, 2) := by decide +kernel
theorem dX0_tellRewrite_92 : decode cX0_tellRewrite 92 = .ok (.ldc_w 363, 3) := by decide +kernel
theorem dX0_tellRewrite_95 : decode cX0_tellRewrite 95 = .ok (.ldc 207, 2) := by decide +kernel
theorem dX0_tellRewrite_97 : decode cX0_tellRewrite 97 = .ok (.invokevirtual 184, 3) := by decide +kernel
theorem dX0_tellRewrite_100 : decode cX0_tellRewrite 100 = .ok (.aload_n 0, 1) := by decide +kernel
theorem dX0_tellRewrite_101 : decode cX0_tellRewrite 101 = .ok (.bipush 10, 2) := by decide +kernel
theorem dX0_tellRewrite_103 : decode cX0_tellRewrite 103 = .ok (.bipush 8, 2) := by decide +kernel
theorem dX0_tellRewrite_105 : decode cX0_tellRewrite 105 = .ok (.ldc_w 445, 3) := by decide +kernel
theorem dX0_tellRewrite_108 : decode cX0_tellRewrite 108 = .ok (.ldc 195, 2) := by decide +kernel
theorem dX0_tellRewrite_110 : decode cX0_tellRewrite 110 = .ok (.invokevirtual 184, 3) := by decide +kernel
theorem dX0_tellRewrite_113 : decode cX0_tellRewrite 113 = .ok (.aload_n 0, 1) := by decide +kernel
theorem dX0_tellRewrite_114 : decode cX0_tellRewrite 114 = .ok (.bipush 10, 2) := by decide +kernel
theorem dX0_tellRewrite_116 : decode cX0_tellRewrite 116 = .ok (.bipush 9, 2) := by decide +kernel
theorem dX0_tellRewrite_118 : decode cX0_tellRewrite 118 = .ok (.ldc_w 447, 3) := by decide +kernel
theorem dX0_tellRewrite_121 : decode cX0_tellRewrite 121 = .ok (.ldc 195, 2) := by decide +kernel
theorem dX0_tellRewrite_123 : decode cX0_tellRewrite 123 = .ok (.invokevirtual 184, 3) := by decide +kernel
theorem dX0_tellRewrite_126 : decode cX0_tellRewrite 126 = .ok (.aload_n 0, 1) := by decide +kernel
theorem dX0_tellRewrite_127 : decode cX0_tellRewrite 127 = .ok (.bipush 10, 2) := by decide +kernel
theorem dX0_tellRewrite_129 : decode cX0_tellRewrite 129 = .ok (.bipush 10, 2) := by decide +kernel
theorem dX0_tellRewrite_131 : decode cX0_tellRewrite 131 = .ok (.ldc_w 305, 3) := by decide +kernel
theorem dX0_tellRewrite_134 : decode cX0_tellRewrite 134 = .ok (.ldc 189, 2) := by decide +kernel
theorem dX0_tellRewrite_136 : decode cX0_tellRewrite 136 = .ok (.invokevirtual 184, 3) := by decide +kernel
theorem dX0_tellRewrite_139 : decode cX0_tellRewrite 139 = .ok (.aload_n 0, 1) := by decide +kernel
theorem dX0_tellRewrite_140 : decode cX0_tellRewrite 140 = .ok (.bipush 10, 2) := by decide +kernel
theorem dX0_tellRewrite_142 : decode cX0_tellRewrite 142 = .ok (.bipush 11, 2) := by decide +kernel
theorem dX0_tellRewrite_144 : decode cX0_tellRewrite 144 = .ok (.ldc_w 375, 3) := by decide +kernel
theorem dX0_tellRewrite_147 : decode cX0_tellRewrite 147 = .ok (.ldc 207, 2) := by decide +kernel
theorem dX0_tellRewrite_149 : decode cX0_tellRewrite 149 = .ok (.invokevirtual 184, 3) := by decide +kernel
theorem dX0_tellRewrite_152 : decode cX0_tellRewrite 152 = .ok (.aload_n 0, 1) := by decide +kernel
theorem dX0_tellRewrite_153 : decode cX0_tellRewrite 153 = .ok (.bipush 10, 2) := by decide +kernel
theorem dX0_tellRewrite_155 : decode cX0_tellRewrite 155 = .ok (.bipush 12, 2) := by decide +kernel
theorem dX0_tellRewrite_157 : decode cX0_tellRewrite 157 = .ok (.ldc_w 403, 3) := by decide +kernel
theorem dX0_tellRewrite_160 : decode cX0_tellRewrite 160 = .ok (.ldc 189, 2) := by decide +kernel
theorem dX0_tellRewrite_162 : decode cX0_tellRewrite 162 = .ok (.invokevirtual 184, 3) := by decide +kernel
theorem dX0_tellRewrite_165 : decode cX0_tellRewrite 165 = .ok (.return_, 1) := by decide +kernel
abbrev cX0_tellDisk : ByteArray := prog_1_method_13_code
def yX0_tellDisk : MethodName := ⟨RX0, "tellDisk", "()V"⟩
theorem dX0_tellDisk_0 : decode cX0_tellDisk 0 = .ok (.aload_n 0, 1) := by decide +kernel
theorem dX0_tellDisk_1 : decode cX0_tellDisk 1 = .ok (.bipush 11, 2) := by decide +kernel
theorem dX0_tellDisk_3 : decode cX0_tellDisk 3 = .ok (.iconst 0, 1) := by decide +kernel
theorem dX0_tellDisk_4 : decode cX0_tellDisk 4 = .ok (.ldc_w 449, 3) := by decide +kernel
theorem dX0_tellDisk_7 : decode cX0_tellDisk 7 = .ok (.ldc_w 451, 3) := by decide +kernel
theorem dX0_tellDisk_10 : decode cX0_tellDisk 10 = .ok (.invokevirtual 184, 3) := by decide +kernel
theorem dX0_tellDisk_13 : decode cX0_tellDisk 13 = .ok (.aload_n 0, 1) := by decide +kernel
theorem dX0_tellDisk_14 : decode cX0_tellDisk 14 = .ok (.bipush 11, 2) := by decide +kernel
theorem dX0_tellDisk_16 : decode cX0_tellDisk 16 = .ok (.iconst 1, 1) := by decide +kernel
theorem dX0_tellDisk_17 : decode cX0_tellDisk 17 = .ok (.ldc_w 257, 3) := by decide +kernel
theorem dX0_tellDisk_20 : decode cX0_tellDisk 20 = .ok (.ldc 207, 2) := by decide +kernel
theorem dX0_tellDisk_22 : decode cX0_tellDisk 22 = .ok (.invokevirtual 184, 3) := by decide +kernel
theorem dX0_tellDisk_25 : decode cX0_tellDisk 25 = .ok (.aload_n 0, 1) := by decide +kernel
theorem dX0_tellDisk_26 : decode cX0_tellDisk 26 = .ok (.bipush 11, 2) := by decide +kernel
theorem dX0_tellDisk_28 : decode cX0_tellDisk 28 = .ok (.iconst 2, 1) := by decide +kernel
theorem dX0_tellDisk_29 : decode cX0_tellDisk 29 = .ok (.ldc_w 453, 3) := by decide +kernel
theorem dX0_tellDisk_32 : decode cX0_tellDisk 32 = .ok (.ldc 189, 2) := by decide +kernel
theorem dX0_tellDisk_34 : decode cX0_tellDisk 34 = .ok (.invokevirtual 184, 3) := by decide +kernel
theorem dX0_tellDisk_37 : decode cX0_tellDisk 37 = .ok (.aload_n 0, 1) := by decide +kernel
theorem dX0_tellDisk_38 : decode cX0_tellDisk 38 = .ok (.bipush 11, 2) := by decide +kernel
theorem dX0_tellDisk_40 : decode cX0_tellDisk 40 = .ok (.iconst 3, 1) := by decide +kernel
theorem dX0_tellDisk_41 : decode cX0_tellDisk 41 = .ok (.ldc_w 455, 3) := by decide +kernel
theorem dX0_tellDisk_44 : decode cX0_tellDisk 44 = .ok (.ldc 195, 2) := by decide +kernel
theorem dX0_tellDisk_46 : decode cX0_tellDisk 46 = .ok (.invokevirtual 184, 3) := by decide +kernel
theorem dX0_tellDisk_49 : decode cX0_tellDisk 49 = .ok (.aload_n 0, 1) := by decide +kernel
theorem dX0_tellDisk_50 : decode cX0_tellDisk 50 = .ok (.bipush 11, 2) := by decide +kernel
theorem dX0_tellDisk_52 : decode cX0_tellDisk 52 = .ok (.iconst 4, 1) := by decide +kernel
theorem dX0_tellDisk_53 : decode cX0_tellDisk 53 = .ok (.ldc_w 457, 3) := by decide +kernel
theorem dX0_tellDisk_56 : decode cX0_tellDisk 56 = .ok (.ldc 189, 2) := by decide +kernel
theorem dX0_tellDisk_58 : decode cX0_tellDisk 58 = .ok (.invokevirtual 184, 3) := by decide +kernel
theorem dX0_tellDisk_61 : decode cX0_tellDisk 61 = .ok (.aload_n 0, 1) := by decide +kernel
theorem dX0_tellDisk_62 : decode cX0_tellDisk 62 = .ok (.bipush 11, 2) := by decide +kernel
theorem dX0_tellDisk_64 : decode cX0_tellDisk 64 = .ok (.iconst 5, 1) := by decide +kernel
theorem dX0_tellDisk_65 : decode cX0_tellDisk 65 = .ok (.ldc_w 459, 3) := by decide +kernel
theorem dX0_tellDisk_68 : decode cX0_tellDisk 68 = .ok (.ldc 203, 2) := by decide +kernel
theorem dX0_tellDisk_70 : decode cX0_tellDisk 70 = .ok (.invokevirtual 184, 3) := by decide +kernel
theorem dX0_tellDisk_73 : decode cX0_tellDisk 73 = .ok (.aload_n 0, 1) := by decide +kernel
theorem dX0_tellDisk_74 : decode cX0_tellDisk 74 = .ok (.bipush 11, 2) := by decide +kernel
theorem dX0_tellDisk_76 : decode cX0_tellDisk 76 = .ok (.bipush 6, 2) := by decide +kernel
theorem dX0_tellDisk_78 : decode cX0_tellDisk 78 = .ok (.ldc_w 461, 3) := by decide +kernel
theorem dX0_tellDisk_81 : decode cX0_tellDisk 81 = .ok (.ldc 207, 2) := by decide +kernel
theorem dX0_tellDisk_83 : decode cX0_tellDisk 83 = .ok (.invokevirtual 184, 3) := by decide +kernel
theorem dX0_tellDisk_86 : decode cX0_tellDisk 86 = .ok (.aload_n 0, 1) := by decide +kernel
theorem dX0_tellDisk_87 : decode cX0_tellDisk 87 = .ok (.bipush 11, 2) := by decide +kernel
theorem dX0_tellDisk_89 : decode cX0_tellDisk 89 = .ok (.bipush 7, 2) := by decide +kernel
theorem dX0_tellDisk_91 : decode cX0_tellDisk 91 = .ok (.ldc_w 462, 3) := by decide +kernel
theorem dX0_tellDisk_94 : decode cX0_tellDisk 94 = .ok (.ldc 207, 2) := by decide +kernel
theorem dX0_tellDisk_96 : decode cX0_tellDisk 96 = .ok (.invokevirtual 184, 3) := by decide +kernel
theorem dX0_tellDisk_99 : decode cX0_tellDisk 99 = .ok (.aload_n 0, 1) := by decide +kernel
theorem dX0_tellDisk_100 : decode cX0_tellDisk 100 = .ok (.bipush 11, 2) := by decide +kernel
theorem dX0_tellDisk_102 : decode cX0_tellDisk 102 = .ok (.bipush 8, 2) := by decide +kernel
theorem dX0_tellDisk_104 : decode cX0_tellDisk 104 = .ok (.ldc 217, 2) := by decide +kernel
theorem dX0_tellDisk_106 : decode cX0_tellDisk 106 = .ok (.ldc 207, 2) := by decide +kernel
theorem dX0_tellDisk_108 : decode cX0_tellDisk 108 = .ok (.invokevirtual 184, 3) := by decide +kernel
theorem dX0_tellDisk_111 : decode cX0_tellDisk 111 = .ok (.aload_n 0, 1) := by decide +kernel
theorem dX0_tellDisk_112 : decode cX0_tellDisk 112 = .ok (.bipush 11, 2) := by decide +kernel
theorem dX0_tellDisk_114 : decode cX0_tellDisk 114 = .ok (.bipush 9, 2) := by decide +kernel
theorem dX0_tellDisk_116 : decode cX0_tellDisk 116 = .ok (.ldc_w 464, 3) := by decide +kernel
theorem dX0_tellDisk_119 : decode cX0_tellDisk 119 = .ok (.ldc 207, 2) := by decide +kernel
theorem dX0_tellDisk_121 : decode cX0_tellDisk 121 = .ok (.invokevirtual 184, 3) := by decide +kernel
theorem dX0_tellDisk_124 : decode cX0_tellDisk 124 = .ok (.aload_n 0, 1) := by decide +kernel
theorem dX0_tellDisk_125 : decode cX0_tellDisk 125 = .ok (.bipush 11, 2) := by decide +kernel
theorem dX0_tellDisk_127 : decode cX0_tellDisk 127 = .ok (.bipush 10, 2) := by decide +kernel
theorem dX0_tellDisk_129 : decode cX0_tellDisk 129 = .ok (.ldc_w 466, 3) := by decide +kernel
theorem dX0_tellDisk_132 : decode cX0_tellDisk 132 = .ok (.ldc_w 468, 3) := by decide +kernel
theorem dX0_tellDisk_135 : decode cX0_tellDisk 135 = .ok (.invokevirtual 184, 3) := by decide +kernel
theorem dX0_tellDisk_138 : decode cX0_tellDisk 138 = .ok (.return_, 1) := by decide +kernel
abbrev cX0_type : ByteArray := prog_1_method_15_code
def yX0_type : MethodName := ⟨RX0, "type", "(JI)I"⟩
theorem dX0_type_0 : decode cX0_type 0 = .ok (.iload_n 3, 1) := by decide +kernel
theorem dX0_type_1 : decode cX0_type 1 = .ok (.iconst 1, 1) := by decide +kernel
theorem dX0_type_2 : decode cX0_type 2 = .ok (.if_icmp .lt 21, 3) := by decide +kernel
theorem dX0_type_5 : decode cX0_type 5 = .ok (.iload_n 3, 1) := by decide +kernel
theorem dX0_type_6 : decode cX0_type 6 = .ok (.bipush 8, 2) := by decide +kernel
theorem dX0_type_8 : decode cX0_type 8 = .ok (.if_icmp .gt 15, 3) := by decide +kernel
theorem dX0_type_11 : decode cX0_type 11 = .ok (.aload_n 0, 1) := by decide +kernel
theorem dX0_type_12 : decode cX0_type 12 = .ok (.getfield 474, 3) := by decide +kernel
theorem dX0_type_15 : decode cX0_type 15 = .ok (.iload_n 3, 1) := by decide +kernel
theorem dX0_type_16 : decode cX0_type 16 = .ok (.iadd, 1) := by decide +kernel
theorem dX0_type_17 : decode cX0_type 17 = .ok (.sipush 8000, 3) := by decide +kernel
theorem dX0_type_20 : decode cX0_type 20 = .ok (.if_icmp .le 5, 3) := by decide +kernel
theorem dX0_type_23 : decode cX0_type 23 = .ok (.iconst (-1), 1) := by decide +kernel
theorem dX0_type_24 : decode cX0_type 24 = .ok (.ireturn, 1) := by decide +kernel
theorem dX0_type_25 : decode cX0_type 25 = .ok (.iload_n 3, 1) := by decide +kernel
theorem dX0_type_26 : decode cX0_type 26 = .ok (.iconst 1, 1) := by decide +kernel
theorem dX0_type_27 : decode cX0_type 27 = .ok (.isub, 1) := by decide +kernel
theorem dX0_type_28 : decode cX0_type 28 = .ok (.istore 4, 2) := by decide +kernel
theorem dX0_type_30 : decode cX0_type 30 = .ok (.iload 4, 2) := by decide +kernel
theorem dX0_type_32 : decode cX0_type 32 = .ok (.ifCond .lt 37, 3) := by decide +kernel
theorem dX0_type_35 : decode cX0_type 35 = .ok (.aload_n 0, 1) := by decide +kernel
theorem dX0_type_36 : decode cX0_type 36 = .ok (.getfield 98, 3) := by decide +kernel
theorem dX0_type_39 : decode cX0_type 39 = .ok (.aload_n 0, 1) := by decide +kernel
theorem dX0_type_40 : decode cX0_type 40 = .ok (.getfield 474, 3) := by decide +kernel
theorem dX0_type_43 : decode cX0_type 43 = .ok (.lload_n 1, 1) := by decide +kernel
theorem dX0_type_44 : decode cX0_type 44 = .ok (.bipush 8, 2) := by decide +kernel
theorem dX0_type_46 : decode cX0_type 46 = .ok (.iload 4, 2) := by decide +kernel
theorem dX0_type_48 : decode cX0_type 48 = .ok (.imul, 1) := by decide +kernel
theorem dX0_type_49 : decode cX0_type 49 = .ok (.lshr, 1) := by decide +kernel
theorem dX0_type_50 : decode cX0_type 50 = .ok (.l2i, 1) := by decide +kernel
theorem dX0_type_51 : decode cX0_type 51 = .ok (.i2b, 1) := by decide +kernel
theorem dX0_type_52 : decode cX0_type 52 = .ok (.bastore, 1) := by decide +kernel
theorem dX0_type_53 : decode cX0_type 53 = .ok (.aload_n 0, 1) := by decide +kernel
theorem dX0_type_54 : decode cX0_type 54 = .ok (.dup, 1) := by decide +kernel
theorem dX0_type_55 : decode cX0_type 55 = .ok (.getfield 474, 3) := by decide +kernel
theorem dX0_type_58 : decode cX0_type 58 = .ok (.iconst 1, 1) := by decide +kernel
theorem dX0_type_59 : decode cX0_type 59 = .ok (.iadd, 1) := by decide +kernel
theorem dX0_type_60 : decode cX0_type 60 = .ok (.putfield 474, 3) := by decide +kernel
theorem dX0_type_63 : decode cX0_type 63 = .ok (.iinc 4 (-1), 3) := by decide +kernel
theorem dX0_type_66 : decode cX0_type 66 = .ok (.goto (-36), 3) := by decide +kernel
theorem dX0_type_69 : decode cX0_type 69 = .ok (.aload_n 0, 1) := by decide +kernel
theorem dX0_type_70 : decode cX0_type 70 = .ok (.getfield 474, 3) := by decide +kernel
theorem dX0_type_73 : decode cX0_type 73 = .ok (.ireturn, 1) := by decide +kernel
abbrev cX0_run : ByteArray := prog_1_method_16_code
def yX0_run : MethodName := ⟨RX0, "run", "()I"⟩
theorem dX0_run_0 : decode cX0_run 0 = .ok (.aload_n 0, 1) := by decide +kernel
theorem dX0_run_1 : decode cX0_run 1 = .ok (.iconst 0, 1) := by decide +kernel
theorem dX0_run_2 : decode cX0_run 2 = .ok (.putfield 476, 3) := by decide +kernel
theorem dX0_run_5 : decode cX0_run 5 = .ok (.aload_n 0, 1) := by decide +kernel
theorem dX0_run_6 : decode cX0_run 6 = .ok (.iconst (-1), 1) := by decide +kernel
theorem dX0_run_7 : decode cX0_run 7 = .ok (.putfield 120, 3) := by decide +kernel
theorem dX0_run_10 : decode cX0_run 10 = .ok (.iconst 0, 1) := by decide +kernel
theorem dX0_run_11 : decode cX0_run 11 = .ok (.istore_n 1, 1) := by decide +kernel
theorem dX0_run_12 : decode cX0_run 12 = .ok (.iconst 0, 1) := by decide +kernel
theorem dX0_run_13 : decode cX0_run 13 = .ok (.istore_n 2, 1) := by decide +kernel
theorem dX0_run_14 : decode cX0_run 14 = .ok (.iload_n 2, 1) := by decide +kernel
theorem dX0_run_15 : decode cX0_run 15 = .ok (.aload_n 0, 1) := by decide +kernel
theorem dX0_run_16 : decode cX0_run 16 = .ok (.getfield 474, 3) := by decide +kernel
theorem dX0_run_19 : decode cX0_run 19 = .ok (.if_icmp .ge 77, 3) := by decide +kernel
theorem dX0_run_22 : decode cX0_run 22 = .ok (.iload_n 2, 1) := by decide +kernel
theorem dX0_run_23 : decode cX0_run 23 = .ok (.istore_n 3, 1) := by decide +kernel
theorem dX0_run_24 : decode cX0_run 24 = .ok (.iload_n 3, 1) := by decide +kernel
theorem dX0_run_25 : decode cX0_run 25 = .ok (.aload_n 0, 1) := by decide +kernel
theorem dX0_run_26 : decode cX0_run 26 = .ok (.getfield 474, 3) := by decide +kernel
theorem dX0_run_29 : decode cX0_run 29 = .ok (.if_icmp .ge 20, 3) := by decide +kernel
theorem dX0_run_32 : decode cX0_run 32 = .ok (.aload_n 0, 1) := by decide +kernel
theorem dX0_run_33 : decode cX0_run 33 = .ok (.getfield 98, 3) := by decide +kernel
theorem dX0_run_36 : decode cX0_run 36 = .ok (.iload_n 3, 1) := by decide +kernel
theorem dX0_run_37 : decode cX0_run 37 = .ok (.baload, 1) := by decide +kernel
theorem dX0_run_38 : decode cX0_run 38 = .ok (.bipush 10, 2) := by decide +kernel
theorem dX0_run_40 : decode cX0_run 40 = .ok (.if_icmp .eq 9, 3) := by decide +kernel
theorem dX0_run_43 : decode cX0_run 43 = .ok (.iinc 3 1, 3) := by decide +kernel
theorem dX0_run_46 : decode cX0_run 46 = .ok (.goto (-22), 3) := by decide +kernel
theorem dX0_run_49 : decode cX0_run 49 = .ok (.aload_n 0, 1) := by decide +kernel
theorem dX0_run_50 : decode cX0_run 50 = .ok (.iload_n 2, 1) := by decide +kernel
theorem dX0_run_51 : decode cX0_run 51 = .ok (.iload_n 3, 1) := by decide +kernel
theorem dX0_run_52 : decode cX0_run 52 = .ok (.invokevirtual 479, 3) := by decide +kernel
theorem dX0_run_55 : decode cX0_run 55 = .ok (.aload_n 0, 1) := by decide +kernel
theorem dX0_run_56 : decode cX0_run 56 = .ok (.getfield 483, 3) := by decide +kernel
theorem dX0_run_59 : decode cX0_run 59 = .ok (.ifCond .le 27, 3) := by decide +kernel
theorem dX0_run_62 : decode cX0_run 62 = .ok (.aload_n 0, 1) := by decide +kernel
theorem dX0_run_63 : decode cX0_run 63 = .ok (.aload_n 0, 1) := by decide +kernel
theorem dX0_run_64 : decode cX0_run 64 = .ok (.invokevirtual 486, 3) := by decide +kernel
theorem dX0_run_67 : decode cX0_run 67 = .ok (.putfield 120, 3) := by decide +kernel
theorem dX0_run_70 : decode cX0_run 70 = .ok (.aload_n 0, 1) := by decide +kernel
theorem dX0_run_71 : decode cX0_run 71 = .ok (.getfield 120, 3) := by decide +kernel
theorem dX0_run_74 : decode cX0_run 74 = .ok (.ifCond .lt 12, 3) := by decide +kernel
theorem dX0_run_77 : decode cX0_run 77 = .ok (.aload_n 0, 1) := by decide +kernel
theorem dX0_run_78 : decode cX0_run 78 = .ok (.iconst 0, 1) := by decide +kernel
theorem dX0_run_79 : decode cX0_run 79 = .ok (.putfield 474, 3) := by decide +kernel
theorem dX0_run_82 : decode cX0_run 82 = .ok (.iconst (-1), 1) := by decide +kernel
theorem dX0_run_83 : decode cX0_run 83 = .ok (.iload_n 1, 1) := by decide +kernel
theorem dX0_run_84 : decode cX0_run 84 = .ok (.isub, 1) := by decide +kernel
theorem dX0_run_85 : decode cX0_run 85 = .ok (.ireturn, 1) := by decide +kernel
theorem dX0_run_86 : decode cX0_run 86 = .ok (.iload_n 3, 1) := by decide +kernel
theorem dX0_run_87 : decode cX0_run 87 = .ok (.iconst 1, 1) := by decide +kernel
theorem dX0_run_88 : decode cX0_run 88 = .ok (.iadd, 1) := by decide +kernel
theorem dX0_run_89 : decode cX0_run 89 = .ok (.istore_n 2, 1) := by decide +kernel
theorem dX0_run_90 : decode cX0_run 90 = .ok (.iinc 1 1, 3) := by decide +kernel
theorem dX0_run_93 : decode cX0_run 93 = .ok (.goto (-79), 3) := by decide +kernel
theorem dX0_run_96 : decode cX0_run 96 = .ok (.aload_n 0, 1) := by decide +kernel
theorem dX0_run_97 : decode cX0_run 97 = .ok (.iconst 0, 1) := by decide +kernel
theorem dX0_run_98 : decode cX0_run 98 = .ok (.putfield 474, 3) := by decide +kernel
theorem dX0_run_101 : decode cX0_run 101 = .ok (.aload_n 0, 1) := by decide +kernel
theorem dX0_run_102 : decode cX0_run 102 = .ok (.getfield 476, 3) := by decide +kernel
theorem dX0_run_105 : decode cX0_run 105 = .ok (.ireturn, 1) := by decide +kernel
abbrev cX0_split : ByteArray := prog_1_method_17_code
def yX0_split : MethodName := ⟨RX0, "split", "(II)V"⟩
theorem dX0_split_0 : decode cX0_split 0 = .ok (.aload_n 0, 1) := by decide +kernel
theorem dX0_split_1 : decode cX0_split 1 = .ok (.iconst 0, 1) := by decide +kernel
theorem dX0_split_2 : decode cX0_split 2 = .ok (.putfield 483, 3) := by decide +kernel
theorem dX0_split_5 : decode cX0_split 5 = .ok (.iload_n 1, 1) := by decide +kernel
theorem dX0_split_6 : decode cX0_split 6 = .ok (.istore_n 3, 1) := by decide +kernel
theorem dX0_split_7 : decode cX0_split 7 = .ok (.iload_n 3, 1) := by decide +kernel
theorem dX0_split_8 : decode cX0_split 8 = .ok (.iload_n 2, 1) := by decide +kernel
theorem dX0_split_9 : decode cX0_split 9 = .ok (.if_icmp .ge 95, 3) := by decide +kernel
theorem dX0_split_12 : decode cX0_split 12 = .ok (.aload_n 0, 1) := by decide +kernel
theorem dX0_split_13 : decode cX0_split 13 = .ok (.getfield 483, 3) := by decide +kernel
theorem dX0_split_16 : decode cX0_split 16 = .ok (.bipush 12, 2) := by decide +kernel
theorem dX0_split_18 : decode cX0_split 18 = .ok (.if_icmp .ge 86, 3) := by decide +kernel
theorem dX0_split_21 : decode cX0_split 21 = .ok (.iload_n 3, 1) := by decide +kernel
theorem dX0_split_22 : decode cX0_split 22 = .ok (.iload_n 2, 1) := by decide +kernel
theorem dX0_split_23 : decode cX0_split 23 = .ok (.if_icmp .ge 20, 3) := by decide +kernel
theorem dX0_split_26 : decode cX0_split 26 = .ok (.aload_n 0, 1) := by decide +kernel
theorem dX0_split_27 : decode cX0_split 27 = .ok (.getfield 98, 3) := by decide +kernel
theorem dX0_split_30 : decode cX0_split 30 = .ok (.iload_n 3, 1) := by decide +kernel
theorem dX0_split_31 : decode cX0_split 31 = .ok (.baload, 1) := by decide +kernel
theorem dX0_split_32 : decode cX0_split 32 = .ok (.bipush 32, 2) := by decide +kernel
theorem dX0_split_34 : decode cX0_split 34 = .ok (.if_icmp .ne 9, 3) := by decide +kernel
theorem dX0_split_37 : decode cX0_split 37 = .ok (.iinc 3 1, 3) := by decide +kernel
theorem dX0_split_40 : decode cX0_split 40 = .ok (.goto (-19), 3) := by decide +kernel
theorem dX0_split_43 : decode cX0_split 43 = .ok (.iload_n 3, 1) := by decide +kernel
theorem dX0_split_44 : decode cX0_split 44 = .ok (.iload_n 2, 1) := by decide +kernel
theorem dX0_split_45 : decode cX0_split 45 = .ok (.if_icmp .ne 4, 3) := by decide +kernel
theorem dX0_split_48 : decode cX0_split 48 = .ok (.return_, 1) := by decide +kernel
theorem dX0_split_49 : decode cX0_split 49 = .ok (.aload_n 0, 1) := by decide +kernel
theorem dX0_split_50 : decode cX0_split 50 = .ok (.getfield 102, 3) := by decide +kernel
theorem dX0_split_53 : decode cX0_split 53 = .ok (.aload_n 0, 1) := by decide +kernel
theorem dX0_split_54 : decode cX0_split 54 = .ok (.getfield 483, 3) := by decide +kernel
theorem dX0_split_57 : decode cX0_split 57 = .ok (.iload_n 3, 1) := by decide +kernel
theorem dX0_split_58 : decode cX0_split 58 = .ok (.iastore, 1) := by decide +kernel
theorem dX0_split_59 : decode cX0_split 59 = .ok (.iload_n 3, 1) := by decide +kernel
theorem dX0_split_60 : decode cX0_split 60 = .ok (.iload_n 2, 1) := by decide +kernel
theorem dX0_split_61 : decode cX0_split 61 = .ok (.if_icmp .ge 20, 3) := by decide +kernel
theorem dX0_split_64 : decode cX0_split 64 = .ok (.aload_n 0, 1) := by decide +kernel
theorem dX0_split_65 : decode cX0_split 65 = .ok (.getfield 98, 3) := by decide +kernel
theorem dX0_split_68 : decode cX0_split 68 = .ok (.iload_n 3, 1) := by decide +kernel
theorem dX0_split_69 : decode cX0_split 69 = .ok (.baload, 1) := by decide +kernel
theorem dX0_split_70 : decode cX0_split 70 = .ok (.bipush 32, 2) := by decide +kernel
theorem dX0_split_72 : decode cX0_split 72 = .ok (.if_icmp .eq 9, 3) := by decide +kernel
theorem dX0_split_75 : decode cX0_split 75 = .ok (.iinc 3 1, 3) := by decide +kernel
theorem dX0_split_78 : decode cX0_split 78 = .ok (.goto (-19), 3) := by decide +kernel
theorem dX0_split_81 : decode cX0_split 81 = .ok (.aload_n 0, 1) := by decide +kernel
theorem dX0_split_82 : decode cX0_split 82 = .ok (.getfield 106, 3) := by decide +kernel
theorem dX0_split_85 : decode cX0_split 85 = .ok (.aload_n 0, 1) := by decide +kernel
theorem dX0_split_86 : decode cX0_split 86 = .ok (.getfield 483, 3) := by decide +kernel
theorem dX0_split_89 : decode cX0_split 89 = .ok (.iload_n 3, 1) := by decide +kernel
theorem dX0_split_90 : decode cX0_split 90 = .ok (.iastore, 1) := by decide +kernel
theorem dX0_split_91 : decode cX0_split 91 = .ok (.aload_n 0, 1) := by decide +kernel
theorem dX0_split_92 : decode cX0_split 92 = .ok (.dup, 1) := by decide +kernel
theorem dX0_split_93 : decode cX0_split 93 = .ok (.getfield 483, 3) := by decide +kernel
theorem dX0_split_96 : decode cX0_split 96 = .ok (.iconst 1, 1) := by decide +kernel
theorem dX0_split_97 : decode cX0_split 97 = .ok (.iadd, 1) := by decide +kernel
theorem dX0_split_98 : decode cX0_split 98 = .ok (.putfield 483, 3) := by decide +kernel
theorem dX0_split_101 : decode cX0_split 101 = .ok (.goto (-94), 3) := by decide +kernel
theorem dX0_split_104 : decode cX0_split 104 = .ok (.return_, 1) := by decide +kernel
abbrev cX0_act : ByteArray := prog_1_method_19_code
def yX0_act : MethodName := ⟨RX0, "act", "()I"⟩
theorem dX0_act_0 : decode cX0_act 0 = .ok (.iconst 0, 1) := by decide +kernel
theorem dX0_act_1 : decode cX0_act 1 = .ok (.istore_n 1, 1) := by decide +kernel
theorem dX0_act_2 : decode cX0_act 2 = .ok (.iload_n 1, 1) := by decide +kernel
theorem dX0_act_3 : decode cX0_act 3 = .ok (.aload_n 0, 1) := by decide +kernel
theorem dX0_act_4 : decode cX0_act 4 = .ok (.getfield 10, 3) := by decide +kernel
theorem dX0_act_7 : decode cX0_act 7 = .ok (.invokevirtual 499, 3) := by decide +kernel
theorem dX0_act_10 : decode cX0_act 10 = .ok (.if_icmp .ge 28, 3) := by decide +kernel
theorem dX0_act_13 : decode cX0_act 13 = .ok (.aload_n 0, 1) := by decide +kernel
theorem dX0_act_14 : decode cX0_act 14 = .ok (.iconst 0, 1) := by decide +kernel
theorem dX0_act_15 : decode cX0_act 15 = .ok (.aload_n 0, 1) := by decide +kernel
theorem dX0_act_16 : decode cX0_act 16 = .ok (.getfield 10, 3) := by decide +kernel
theorem dX0_act_19 : decode cX0_act 19 = .ok (.iload_n 1, 1) := by decide +kernel
theorem dX0_act_20 : decode cX0_act 20 = .ok (.invokevirtual 501, 3) := by decide +kernel
theorem dX0_act_23 : decode cX0_act 23 = .ok (.checkcast 491, 3) := by decide +kernel
theorem dX0_act_26 : decode cX0_act 26 = .ok (.invokevirtual 505, 3) := by decide +kernel
theorem dX0_act_29 : decode cX0_act 29 = .ok (.ifCond .ne 9, 3) := by decide +kernel
theorem dX0_act_32 : decode cX0_act 32 = .ok (.iinc 1 1, 3) := by decide +kernel
theorem dX0_act_35 : decode cX0_act 35 = .ok (.goto (-33), 3) := by decide +kernel
theorem dX0_act_38 : decode cX0_act 38 = .ok (.iload_n 1, 1) := by decide +kernel
theorem dX0_act_39 : decode cX0_act 39 = .ok (.aload_n 0, 1) := by decide +kernel
theorem dX0_act_40 : decode cX0_act 40 = .ok (.getfield 10, 3) := by decide +kernel
theorem dX0_act_43 : decode cX0_act 43 = .ok (.invokevirtual 499, 3) := by decide +kernel
theorem dX0_act_46 : decode cX0_act 46 = .ok (.if_icmp .ne 5, 3) := by decide +kernel
theorem dX0_act_49 : decode cX0_act 49 = .ok (.iconst 0, 1) := by decide +kernel
theorem dX0_act_50 : decode cX0_act 50 = .ok (.ireturn, 1) := by decide +kernel
theorem dX0_act_51 : decode cX0_act 51 = .ok (.aload_n 0, 1) := by decide +kernel
theorem dX0_act_52 : decode cX0_act 52 = .ok (.getfield 483, 3) := by decide +kernel
theorem dX0_act_55 : decode cX0_act 55 = .ok (.iconst 2, 1) := by decide +kernel
theorem dX0_act_56 : decode cX0_act 56 = .ok (.if_icmp .ge 5, 3) := by decide +kernel
theorem dX0_act_59 : decode cX0_act 59 = .ok (.iconst 1, 1) := by decide +kernel
theorem dX0_act_60 : decode cX0_act 60 = .ok (.ireturn, 1) := by decide +kernel
theorem dX0_act_61 : decode cX0_act 61 = .ok (.iconst 0, 1) := by decide +kernel
theorem dX0_act_62 : decode cX0_act 62 = .ok (.istore_n 2, 1) := by decide +kernel
theorem dX0_act_63 : decode cX0_act 63 = .ok (.iload_n 2, 1) := by decide +kernel
theorem dX0_act_64 : decode cX0_act 64 = .ok (.aload_n 0, 1) := by decide +kernel
theorem dX0_act_65 : decode cX0_act 65 = .ok (.getfield 16, 3) := by decide +kernel
theorem dX0_act_68 : decode cX0_act 68 = .ok (.invokevirtual 499, 3) := by decide +kernel
theorem dX0_act_71 : decode cX0_act 71 = .ok (.if_icmp .ge 49, 3) := by decide +kernel
theorem dX0_act_74 : decode cX0_act 74 = .ok (.aload_n 0, 1) := by decide +kernel
theorem dX0_act_75 : decode cX0_act 75 = .ok (.getfield 16, 3) := by decide +kernel
theorem dX0_act_78 : decode cX0_act 78 = .ok (.iload_n 2, 1) := by decide +kernel
theorem dX0_act_79 : decode cX0_act 79 = .ok (.invokevirtual 501, 3) := by decide +kernel
theorem dX0_act_82 : decode cX0_act 82 = .ok (.checkcast 470, 3) := by decide +kernel
theorem dX0_act_85 : decode cX0_act 85 = .ok (.getfield 509, 3) := by decide +kernel
theorem dX0_act_88 : decode cX0_act 88 = .ok (.iload_n 1, 1) := by decide +kernel
theorem dX0_act_89 : decode cX0_act 89 = .ok (.if_icmp .ne 25, 3) := by decide +kernel
theorem dX0_act_92 : decode cX0_act 92 = .ok (.aload_n 0, 1) := by decide +kernel
theorem dX0_act_93 : decode cX0_act 93 = .ok (.iconst 1, 1) := by decide +kernel
theorem dX0_act_94 : decode cX0_act 94 = .ok (.aload_n 0, 1) := by decide +kernel
theorem dX0_act_95 : decode cX0_act 95 = .ok (.getfield 16, 3) := by decide +kernel
theorem dX0_act_98 : decode cX0_act 98 = .ok (.iload_n 2, 1) := by decide +kernel
theorem dX0_act_99 : decode cX0_act 99 = .ok (.invokevirtual 501, 3) := by decide +kernel
theorem dX0_act_102 : decode cX0_act 102 = .ok (.checkcast 470, 3) := by decide +kernel
theorem dX0_act_105 : decode cX0_act 105 = .ok (.getfield 512, 3) := by decide +kernel
theorem dX0_act_108 : decode cX0_act 108 = .ok (.invokevirtual 505, 3) := by decide +kernel
theorem dX0_act_111 : decode cX0_act 111 = .ok (.ifCond .ne 9, 3) := by decide +kernel
theorem dX0_act_114 : decode cX0_act 114 = .ok (.iinc 2 1, 3) := by decide +kernel
theorem dX0_act_117 : decode cX0_act 117 = .ok (.goto (-54), 3) := by decide +kernel
theorem dX0_act_120 : decode cX0_act 120 = .ok (.iload_n 2, 1) := by decide +kernel
theorem dX0_act_121 : decode cX0_act 121 = .ok (.aload_n 0, 1) := by decide +kernel
theorem dX0_act_122 : decode cX0_act 122 = .ok (.getfield 16, 3) := by decide +kernel
theorem dX0_act_125 : decode cX0_act 125 = .ok (.invokevirtual 499, 3) := by decide +kernel
theorem dX0_act_128 : decode cX0_act 128 = .ok (.if_icmp .ne 5, 3) := by decide +kernel
theorem dX0_act_131 : decode cX0_act 131 = .ok (.iconst 1, 1) := by decide +kernel
theorem dX0_act_132 : decode cX0_act 132 = .ok (.ireturn, 1) := by decide +kernel
theorem dX0_act_133 : decode cX0_act 133 = .ok (.aload_n 0, 1) := by decide +kernel
theorem dX0_act_134 : decode cX0_act 134 = .ok (.getfield 16, 3) := by decide +kernel
theorem dX0_act_137 : decode cX0_act 137 = .ok (.iload_n 2, 1) := by decide +kernel
theorem dX0_act_138 : decode cX0_act 138 = .ok (.invokevirtual 501, 3) := by decide +kernel
theorem dX0_act_141 : decode cX0_act 141 = .ok (.checkcast 470, 3) := by decide +kernel
theorem dX0_act_144 : decode cX0_act 144 = .ok (.astore_n 3, 1) := by decide +kernel
theorem dX0_act_145 : decode cX0_act 145 = .ok (.aload_n 3, 1) := by decide +kernel
theorem dX0_act_146 : decode cX0_act 146 = .ok (.getfield 516, 3) := by decide +kernel
theorem dX0_act_149 : decode cX0_act 149 = .ok (.invokevirtual 490, 3) := by decide +kernel
theorem dX0_act_152 : decode cX0_act 152 = .ok (.istore 4, 2) := by decide +kernel
theorem dX0_act_154 : decode cX0_act 154 = .ok (.iconst 0, 1) := by decide +kernel
theorem dX0_act_155 : decode cX0_act 155 = .ok (.istore 5, 2) := by decide +kernel
theorem dX0_act_157 : decode cX0_act 157 = .ok (.iload 5, 2) := by decide +kernel
theorem dX0_act_159 : decode cX0_act 159 = .ok (.iload 4, 2) := by decide +kernel
theorem dX0_act_161 : decode cX0_act 161 = .ok (.if_icmp .ge 43, 3) := by decide +kernel
theorem dX0_act_164 : decode cX0_act 164 = .ok (.aload_n 0, 1) := by decide +kernel
theorem dX0_act_165 : decode cX0_act 165 = .ok (.getfield 483, 3) := by decide +kernel
theorem dX0_act_168 : decode cX0_act 168 = .ok (.iload 5, 2) := by decide +kernel
theorem dX0_act_170 : decode cX0_act 170 = .ok (.iconst 2, 1) := by decide +kernel
theorem dX0_act_171 : decode cX0_act 171 = .ok (.iadd, 1) := by decide +kernel
theorem dX0_act_172 : decode cX0_act 172 = .ok (.if_icmp .le 21, 3) := by decide +kernel
theorem dX0_act_175 : decode cX0_act 175 = .ok (.aload_n 0, 1) := by decide +kernel
theorem dX0_act_176 : decode cX0_act 176 = .ok (.iload 5, 2) := by decide +kernel
theorem dX0_act_178 : decode cX0_act 178 = .ok (.aload_n 3, 1) := by decide +kernel
theorem dX0_act_179 : decode cX0_act 179 = .ok (.getfield 516, 3) := by decide +kernel
theorem dX0_act_182 : decode cX0_act 182 = .ok (.iload 5, 2) := by decide +kernel
theorem dX0_act_184 : decode cX0_act 184 = .ok (.invokevirtual 495, 3) := by decide +kernel
theorem dX0_act_187 : decode cX0_act 187 = .ok (.invokevirtual 519, 3) := by decide +kernel
theorem dX0_act_190 : decode cX0_act 190 = .ok (.ifCond .ne 8, 3) := by decide +kernel
theorem dX0_act_193 : decode cX0_act 193 = .ok (.iload 5, 2) := by decide +kernel
theorem dX0_act_195 : decode cX0_act 195 = .ok (.iconst 2, 1) := by decide +kernel
theorem dX0_act_196 : decode cX0_act 196 = .ok (.iadd, 1) := by decide +kernel
theorem dX0_act_197 : decode cX0_act 197 = .ok (.ireturn, 1) := by decide +kernel
theorem dX0_act_198 : decode cX0_act 198 = .ok (.iinc 5 1, 3) := by decide +kernel
theorem dX0_act_201 : decode cX0_act 201 = .ok (.goto (-44), 3) := by decide +kernel
theorem dX0_act_204 : decode cX0_act 204 = .ok (.aload_n 0, 1) := by decide +kernel
theorem dX0_act_205 : decode cX0_act 205 = .ok (.getfield 483, 3) := by decide +kernel
theorem dX0_act_208 : decode cX0_act 208 = .ok (.iload 4, 2) := by decide +kernel
theorem dX0_act_210 : decode cX0_act 210 = .ok (.iconst 2, 1) := by decide +kernel
theorem dX0_act_211 : decode cX0_act 211 = .ok (.iadd, 1) := by decide +kernel
theorem dX0_act_212 : decode cX0_act 212 = .ok (.if_icmp .le 8, 3) := by decide +kernel
theorem dX0_act_215 : decode cX0_act 215 = .ok (.iload 4, 2) := by decide +kernel
theorem dX0_act_217 : decode cX0_act 217 = .ok (.iconst 2, 1) := by decide +kernel
theorem dX0_act_218 : decode cX0_act 218 = .ok (.iadd, 1) := by decide +kernel
theorem dX0_act_219 : decode cX0_act 219 = .ok (.ireturn, 1) := by decide +kernel
theorem dX0_act_220 : decode cX0_act 220 = .ok (.aload_n 0, 1) := by decide +kernel
theorem dX0_act_221 : decode cX0_act 221 = .ok (.aload_n 3, 1) := by decide +kernel
theorem dX0_act_222 : decode cX0_act 222 = .ok (.invokevirtual 523, 3) := by decide +kernel
theorem dX0_act_225 : decode cX0_act 225 = .ok (.iconst (-1), 1) := by decide +kernel
theorem dX0_act_226 : decode cX0_act 226 = .ok (.ireturn, 1) := by decide +kernel
abbrev cX0_isWord : ByteArray := prog_1_method_18_code
def yX0_isWord : MethodName := ⟨RX0, "isWord", "(ILjava/lang/String;)Z"⟩
theorem dX0_isWord_0 : decode cX0_isWord 0 = .ok (.aload_n 0, 1) := by decide +kernel
theorem dX0_isWord_1 : decode cX0_isWord 1 = .ok (.getfield 106, 3) := by decide +kernel
theorem dX0_isWord_4 : decode cX0_isWord 4 = .ok (.iload_n 1, 1) := by decide +kernel
theorem dX0_isWord_5 : decode cX0_isWord 5 = .ok (.iaload, 1) := by decide +kernel
theorem dX0_isWord_6 : decode cX0_isWord 6 = .ok (.aload_n 0, 1) := by decide +kernel
theorem dX0_isWord_7 : decode cX0_isWord 7 = .ok (.getfield 102, 3) := by decide +kernel
theorem dX0_isWord_10 : decode cX0_isWord 10 = .ok (.iload_n 1, 1) := by decide +kernel
theorem dX0_isWord_11 : decode cX0_isWord 11 = .ok (.iaload, 1) := by decide +kernel
theorem dX0_isWord_12 : decode cX0_isWord 12 = .ok (.isub, 1) := by decide +kernel
theorem dX0_isWord_13 : decode cX0_isWord 13 = .ok (.aload_n 2, 1) := by decide +kernel
theorem dX0_isWord_14 : decode cX0_isWord 14 = .ok (.invokevirtual 490, 3) := by decide +kernel
theorem dX0_isWord_17 : decode cX0_isWord 17 = .ok (.if_icmp .ne 7, 3) := by decide +kernel
theorem dX0_isWord_20 : decode cX0_isWord 20 = .ok (.iconst 1, 1) := by decide +kernel
theorem dX0_isWord_21 : decode cX0_isWord 21 = .ok (.goto 4, 3) := by decide +kernel
theorem dX0_isWord_24 : decode cX0_isWord 24 = .ok (.iconst 0, 1) := by decide +kernel
theorem dX0_isWord_25 : decode cX0_isWord 25 = .ok (.istore_n 3, 1) := by decide +kernel
theorem dX0_isWord_26 : decode cX0_isWord 26 = .ok (.iconst 0, 1) := by decide +kernel
theorem dX0_isWord_27 : decode cX0_isWord 27 = .ok (.istore 4, 2) := by decide +kernel
theorem dX0_isWord_29 : decode cX0_isWord 29 = .ok (.iload 4, 2) := by decide +kernel
theorem dX0_isWord_31 : decode cX0_isWord 31 = .ok (.aload_n 2, 1) := by decide +kernel
theorem dX0_isWord_32 : decode cX0_isWord 32 = .ok (.invokevirtual 490, 3) := by decide +kernel
theorem dX0_isWord_35 : decode cX0_isWord 35 = .ok (.if_icmp .ge 42, 3) := by decide +kernel
theorem dX0_isWord_38 : decode cX0_isWord 38 = .ok (.iload_n 3, 1) := by decide +kernel
theorem dX0_isWord_39 : decode cX0_isWord 39 = .ok (.ifCond .eq 38, 3) := by decide +kernel
theorem dX0_isWord_42 : decode cX0_isWord 42 = .ok (.aload_n 0, 1) := by decide +kernel
theorem dX0_isWord_43 : decode cX0_isWord 43 = .ok (.getfield 98, 3) := by decide +kernel
theorem dX0_isWord_46 : decode cX0_isWord 46 = .ok (.aload_n 0, 1) := by decide +kernel
theorem dX0_isWord_47 : decode cX0_isWord 47 = .ok (.getfield 102, 3) := by decide +kernel
theorem dX0_isWord_50 : decode cX0_isWord 50 = .ok (.iload_n 1, 1) := by decide +kernel
theorem dX0_isWord_51 : decode cX0_isWord 51 = .ok (.iaload, 1) := by decide +kernel
theorem dX0_isWord_52 : decode cX0_isWord 52 = .ok (.iload 4, 2) := by decide +kernel
theorem dX0_isWord_54 : decode cX0_isWord 54 = .ok (.iadd, 1) := by decide +kernel
theorem dX0_isWord_55 : decode cX0_isWord 55 = .ok (.baload, 1) := by decide +kernel
theorem dX0_isWord_56 : decode cX0_isWord 56 = .ok (.aload_n 2, 1) := by decide +kernel
theorem dX0_isWord_57 : decode cX0_isWord 57 = .ok (.iload 4, 2) := by decide +kernel
theorem dX0_isWord_59 : decode cX0_isWord 59 = .ok (.invokevirtual 495, 3) := by decide +kernel
theorem dX0_isWord_62 : decode cX0_isWord 62 = .ok (.if_icmp .ne 7, 3) := by decide +kernel
theorem dX0_isWord_65 : decode cX0_isWord 65 = .ok (.iconst 1, 1) := by decide +kernel
theorem dX0_isWord_66 : decode cX0_isWord 66 = .ok (.goto 4, 3) := by decide +kernel
theorem dX0_isWord_69 : decode cX0_isWord 69 = .ok (.iconst 0, 1) := by decide +kernel
theorem dX0_isWord_70 : decode cX0_isWord 70 = .ok (.istore_n 3, 1) := by decide +kernel
theorem dX0_isWord_71 : decode cX0_isWord 71 = .ok (.iinc 4 1, 3) := by decide +kernel
theorem dX0_isWord_74 : decode cX0_isWord 74 = .ok (.goto (-45), 3) := by decide +kernel
theorem dX0_isWord_77 : decode cX0_isWord 77 = .ok (.iload_n 3, 1) := by decide +kernel
theorem dX0_isWord_78 : decode cX0_isWord 78 = .ok (.ireturn, 1) := by decide +kernel
abbrev cX0_reads : ByteArray := prog_1_method_21_code
def yX0_reads : MethodName := ⟨RX0, "reads", "(IC)Z"⟩
theorem dX0_reads_0 : decode cX0_reads 0 = .ok (.aload_n 0, 1) := by decide +kernel
theorem dX0_reads_1 : decode cX0_reads 1 = .ok (.getfield 102, 3) := by decide +kernel
theorem dX0_reads_4 : decode cX0_reads 4 = .ok (.iload_n 1, 1) := by decide +kernel
theorem dX0_reads_5 : decode cX0_reads 5 = .ok (.iconst 2, 1) := by decide +kernel
theorem dX0_reads_6 : decode cX0_reads 6 = .ok (.iadd, 1) := by decide +kernel
theorem dX0_reads_7 : decode cX0_reads 7 = .ok (.iaload, 1) := by decide +kernel
theorem dX0_reads_8 : decode cX0_reads 8 = .ok (.istore_n 3, 1) := by decide +kernel
theorem dX0_reads_9 : decode cX0_reads 9 = .ok (.aload_n 0, 1) := by decide +kernel
theorem dX0_reads_10 : decode cX0_reads 10 = .ok (.getfield 106, 3) := by decide +kernel
theorem dX0_reads_13 : decode cX0_reads 13 = .ok (.iload_n 1, 1) := by decide +kernel
theorem dX0_reads_14 : decode cX0_reads 14 = .ok (.iconst 2, 1) := by decide +kernel
theorem dX0_reads_15 : decode cX0_reads 15 = .ok (.iadd, 1) := by decide +kernel
theorem dX0_reads_16 : decode cX0_reads 16 = .ok (.iaload, 1) := by decide +kernel
theorem dX0_reads_17 : decode cX0_reads 17 = .ok (.istore 4, 2) := by decide +kernel
theorem dX0_reads_19 : decode cX0_reads 19 = .ok (.aload_n 0, 1) := by decide +kernel
theorem dX0_reads_20 : decode cX0_reads 20 = .ok (.getfield 98, 3) := by decide +kernel
theorem dX0_reads_23 : decode cX0_reads 23 = .ok (.iload_n 3, 1) := by decide +kernel
theorem dX0_reads_24 : decode cX0_reads 24 = .ok (.baload, 1) := by decide +kernel
theorem dX0_reads_25 : decode cX0_reads 25 = .ok (.istore 5, 2) := by decide +kernel
theorem dX0_reads_27 : decode cX0_reads 27 = .ok (.iload 5, 2) := by decide +kernel
theorem dX0_reads_29 : decode cX0_reads 29 = .ok (.bipush 45, 2) := by decide +kernel
theorem dX0_reads_31 : decode cX0_reads 31 = .ok (.if_icmp .eq 10, 3) := by decide +kernel
theorem dX0_reads_34 : decode cX0_reads 34 = .ok (.iload 5, 2) := by decide +kernel
theorem dX0_reads_36 : decode cX0_reads 36 = .ok (.bipush 64, 2) := by decide +kernel
theorem dX0_reads_38 : decode cX0_reads 38 = .ok (.if_icmp .ne 6, 3) := by decide +kernel
theorem dX0_reads_41 : decode cX0_reads 41 = .ok (.iinc 3 1, 3) := by decide +kernel
theorem dX0_reads_44 : decode cX0_reads 44 = .ok (.iload_n 3, 1) := by decide +kernel
theorem dX0_reads_45 : decode cX0_reads 45 = .ok (.iload 4, 2) := by decide +kernel
theorem dX0_reads_47 : decode cX0_reads 47 = .ok (.if_icmp .eq 23, 3) := by decide +kernel
theorem dX0_reads_50 : decode cX0_reads 50 = .ok (.iload 4, 2) := by decide +kernel
theorem dX0_reads_52 : decode cX0_reads 52 = .ok (.iload_n 3, 1) := by decide +kernel
theorem dX0_reads_53 : decode cX0_reads 53 = .ok (.isub, 1) := by decide +kernel
theorem dX0_reads_54 : decode cX0_reads 54 = .ok (.iload 5, 2) := by decide +kernel
theorem dX0_reads_56 : decode cX0_reads 56 = .ok (.bipush 64, 2) := by decide +kernel
theorem dX0_reads_58 : decode cX0_reads 58 = .ok (.if_icmp .ne 7, 3) := by decide +kernel
theorem dX0_reads_61 : decode cX0_reads 61 = .ok (.iconst 3, 1) := by decide +kernel
theorem dX0_reads_62 : decode cX0_reads 62 = .ok (.goto 5, 3) := by decide +kernel
theorem dX0_reads_65 : decode cX0_reads 65 = .ok (.bipush 18, 2) := by decide +kernel
theorem dX0_reads_67 : decode cX0_reads 67 = .ok (.if_icmp .le 5, 3) := by decide +kernel
theorem dX0_reads_70 : decode cX0_reads 70 = .ok (.iconst 0, 1) := by decide +kernel
theorem dX0_reads_71 : decode cX0_reads 71 = .ok (.ireturn, 1) := by decide +kernel
theorem dX0_reads_72 : decode cX0_reads 72 = .ok (.lconst 0, 1) := by decide +kernel
theorem dX0_reads_73 : decode cX0_reads 73 = .ok (.lstore 6, 2) := by decide +kernel
theorem dX0_reads_75 : decode cX0_reads 75 = .ok (.iload_n 3, 1) := by decide +kernel
theorem dX0_reads_76 : decode cX0_reads 76 = .ok (.istore 8, 2) := by decide +kernel
theorem dX0_reads_78 : decode cX0_reads 78 = .ok (.iload 8, 2) := by decide +kernel
theorem dX0_reads_80 : decode cX0_reads 80 = .ok (.iload 4, 2) := by decide +kernel
theorem dX0_reads_82 : decode cX0_reads 82 = .ok (.if_icmp .ge 45, 3) := by decide +kernel
theorem dX0_reads_85 : decode cX0_reads 85 = .ok (.aload_n 0, 1) := by decide +kernel
theorem dX0_reads_86 : decode cX0_reads 86 = .ok (.getfield 98, 3) := by decide +kernel
theorem dX0_reads_89 : decode cX0_reads 89 = .ok (.iload 8, 2) := by decide +kernel
theorem dX0_reads_91 : decode cX0_reads 91 = .ok (.baload, 1) := by decide +kernel
theorem dX0_reads_92 : decode cX0_reads 92 = .ok (.invokestatic 527, 3) := by decide +kernel
theorem dX0_reads_95 : decode cX0_reads 95 = .ok (.ifCond .ne 5, 3) := by decide +kernel
theorem dX0_reads_98 : decode cX0_reads 98 = .ok (.iconst 0, 1) := by decide +kernel
theorem dX0_reads_99 : decode cX0_reads 99 = .ok (.ireturn, 1) := by decide +kernel
theorem dX0_reads_100 : decode cX0_reads 100 = .ok (.ldc2_w 531, 3) := by decide +kernel
theorem dX0_reads_103 : decode cX0_reads 103 = .ok (.lload 6, 2) := by decide +kernel
theorem dX0_reads_105 : decode cX0_reads 105 = .ok (.lmul, 1) := by decide +kernel
theorem dX0_reads_106 : decode cX0_reads 106 = .ok (.aload_n 0, 1) := by decide +kernel
theorem dX0_reads_107 : decode cX0_reads 107 = .ok (.getfield 98, 3) := by decide +kernel
theorem dX0_reads_110 : decode cX0_reads 110 = .ok (.iload 8, 2) := by decide +kernel
theorem dX0_reads_112 : decode cX0_reads 112 = .ok (.baload, 1) := by decide +kernel
theorem dX0_reads_113 : decode cX0_reads 113 = .ok (.i2l, 1) := by decide +kernel
theorem dX0_reads_114 : decode cX0_reads 114 = .ok (.ladd, 1) := by decide +kernel
theorem dX0_reads_115 : decode cX0_reads 115 = .ok (.ldc2_w 533, 3) := by decide +kernel
theorem dX0_reads_118 : decode cX0_reads 118 = .ok (.lsub, 1) := by decide +kernel
theorem dX0_reads_119 : decode cX0_reads 119 = .ok (.lstore 6, 2) := by decide +kernel
theorem dX0_reads_121 : decode cX0_reads 121 = .ok (.iinc 8 1, 3) := by decide +kernel
theorem dX0_reads_124 : decode cX0_reads 124 = .ok (.goto (-46), 3) := by decide +kernel
theorem dX0_reads_127 : decode cX0_reads 127 = .ok (.iload 5, 2) := by decide +kernel
theorem dX0_reads_129 : decode cX0_reads 129 = .ok (.bipush 64, 2) := by decide +kernel
theorem dX0_reads_131 : decode cX0_reads 131 = .ok (.if_icmp .ne 26, 3) := by decide +kernel
theorem dX0_reads_134 : decode cX0_reads 134 = .ok (.lload 6, 2) := by decide +kernel
theorem dX0_reads_136 : decode cX0_reads 136 = .ok (.aload_n 0, 1) := by decide +kernel
theorem dX0_reads_137 : decode cX0_reads 137 = .ok (.getfield 476, 3) := by decide +kernel
theorem dX0_reads_140 : decode cX0_reads 140 = .ok (.i2l, 1) := by decide +kernel
theorem dX0_reads_141 : decode cX0_reads 141 = .ok (.lcmp, 1) := by decide +kernel
theorem dX0_reads_142 : decode cX0_reads 142 = .ok (.ifCond .lt 5, 3) := by decide +kernel
theorem dX0_reads_145 : decode cX0_reads 145 = .ok (.iconst 0, 1) := by decide +kernel
theorem dX0_reads_146 : decode cX0_reads 146 = .ok (.ireturn, 1) := by decide +kernel
theorem dX0_reads_147 : decode cX0_reads 147 = .ok (.aload_n 0, 1) := by decide +kernel
theorem dX0_reads_148 : decode cX0_reads 148 = .ok (.getfield 113, 3) := by decide +kernel
theorem dX0_reads_151 : decode cX0_reads 151 = .ok (.lload 6, 2) := by decide +kernel
theorem dX0_reads_153 : decode cX0_reads 153 = .ok (.l2i, 1) := by decide +kernel
theorem dX0_reads_154 : decode cX0_reads 154 = .ok (.laload, 1) := by decide +kernel
theorem dX0_reads_155 : decode cX0_reads 155 = .ok (.lstore 6, 2) := by decide +kernel
theorem dX0_reads_157 : decode cX0_reads 157 = .ok (.aload_n 0, 1) := by decide +kernel
theorem dX0_reads_158 : decode cX0_reads 158 = .ok (.getfield 109, 3) := by decide +kernel
theorem dX0_reads_161 : decode cX0_reads 161 = .ok (.iload_n 1, 1) := by decide +kernel
theorem dX0_reads_162 : decode cX0_reads 162 = .ok (.iload 5, 2) := by decide +kernel
theorem dX0_reads_164 : decode cX0_reads 164 = .ok (.bipush 45, 2) := by decide +kernel
theorem dX0_reads_166 : decode cX0_reads 166 = .ok (.if_icmp .ne 9, 3) := by decide +kernel
theorem dX0_reads_169 : decode cX0_reads 169 = .ok (.lload 6, 2) := by decide +kernel
theorem dX0_reads_171 : decode cX0_reads 171 = .ok (.lneg, 1) := by decide +kernel
theorem dX0_reads_172 : decode cX0_reads 172 = .ok (.goto 5, 3) := by decide +kernel
theorem dX0_reads_175 : decode cX0_reads 175 = .ok (.lload 6, 2) := by decide +kernel
theorem dX0_reads_177 : decode cX0_reads 177 = .ok (.lastore, 1) := by decide +kernel
theorem dX0_reads_178 : decode cX0_reads 178 = .ok (.iload_n 2, 1) := by decide +kernel
theorem dX0_reads_179 : decode cX0_reads 179 = .ok (.bipush 108, 2) := by decide +kernel
theorem dX0_reads_181 : decode cX0_reads 181 = .ok (.if_icmp .eq 52, 3) := by decide +kernel
theorem dX0_reads_184 : decode cX0_reads 184 = .ok (.iload_n 2, 1) := by decide +kernel
theorem dX0_reads_185 : decode cX0_reads 185 = .ok (.bipush 98, 2) := by decide +kernel
theorem dX0_reads_187 : decode cX0_reads 187 = .ok (.if_icmp .ne 28, 3) := by decide +kernel
theorem dX0_reads_190 : decode cX0_reads 190 = .ok (.aload_n 0, 1) := by decide +kernel
theorem dX0_reads_191 : decode cX0_reads 191 = .ok (.getfield 109, 3) := by decide +kernel
theorem dX0_reads_194 : decode cX0_reads 194 = .ok (.iload_n 1, 1) := by decide +kernel
theorem dX0_reads_195 : decode cX0_reads 195 = .ok (.laload, 1) := by decide +kernel
theorem dX0_reads_196 : decode cX0_reads 196 = .ok (.lconst 0, 1) := by decide +kernel
theorem dX0_reads_197 : decode cX0_reads 197 = .ok (.lcmp, 1) := by decide +kernel
theorem dX0_reads_198 : decode cX0_reads 198 = .ok (.ifCond .eq 35, 3) := by decide +kernel
theorem dX0_reads_201 : decode cX0_reads 201 = .ok (.aload_n 0, 1) := by decide +kernel
theorem dX0_reads_202 : decode cX0_reads 202 = .ok (.getfield 109, 3) := by decide +kernel
theorem dX0_reads_205 : decode cX0_reads 205 = .ok (.iload_n 1, 1) := by decide +kernel
theorem dX0_reads_206 : decode cX0_reads 206 = .ok (.laload, 1) := by decide +kernel
theorem dX0_reads_207 : decode cX0_reads 207 = .ok (.lconst 1, 1) := by decide +kernel
theorem dX0_reads_208 : decode cX0_reads 208 = .ok (.lcmp, 1) := by decide +kernel
theorem dX0_reads_209 : decode cX0_reads 209 = .ok (.ifCond .ne 28, 3) := by decide +kernel
theorem dX0_reads_212 : decode cX0_reads 212 = .ok (.goto 21, 3) := by decide +kernel
theorem dX0_reads_215 : decode cX0_reads 215 = .ok (.aload_n 0, 1) := by decide +kernel
theorem dX0_reads_216 : decode cX0_reads 216 = .ok (.getfield 109, 3) := by decide +kernel
theorem dX0_reads_219 : decode cX0_reads 219 = .ok (.iload_n 1, 1) := by decide +kernel
theorem dX0_reads_220 : decode cX0_reads 220 = .ok (.laload, 1) := by decide +kernel
theorem dX0_reads_221 : decode cX0_reads 221 = .ok (.aload_n 0, 1) := by decide +kernel
theorem dX0_reads_222 : decode cX0_reads 222 = .ok (.getfield 109, 3) := by decide +kernel
theorem dX0_reads_225 : decode cX0_reads 225 = .ok (.iload_n 1, 1) := by decide +kernel
theorem dX0_reads_226 : decode cX0_reads 226 = .ok (.laload, 1) := by decide +kernel
theorem dX0_reads_227 : decode cX0_reads 227 = .ok (.l2i, 1) := by decide +kernel
theorem dX0_reads_228 : decode cX0_reads 228 = .ok (.i2l, 1) := by decide +kernel
theorem dX0_reads_229 : decode cX0_reads 229 = .ok (.lcmp, 1) := by decide +kernel
theorem dX0_reads_230 : decode cX0_reads 230 = .ok (.ifCond .ne 7, 3) := by decide +kernel
theorem dX0_reads_233 : decode cX0_reads 233 = .ok (.iconst 1, 1) := by decide +kernel
theorem dX0_reads_234 : decode cX0_reads 234 = .ok (.goto 4, 3) := by decide +kernel
theorem dX0_reads_237 : decode cX0_reads 237 = .ok (.iconst 0, 1) := by decide +kernel
theorem dX0_reads_238 : decode cX0_reads 238 = .ok (.ireturn, 1) := by decide +kernel
abbrev cX0_isDigit : ByteArray := prog_1_method_20_code
def yX0_isDigit : MethodName := ⟨RX0, "isDigit", "(I)Z"⟩
theorem dX0_isDigit_0 : decode cX0_isDigit 0 = .ok (.iload_n 0, 1) := by decide +kernel
theorem dX0_isDigit_1 : decode cX0_isDigit 1 = .ok (.bipush 48, 2) := by decide +kernel
theorem dX0_isDigit_3 : decode cX0_isDigit 3 = .ok (.if_icmp .lt 13, 3) := by decide +kernel
theorem dX0_isDigit_6 : decode cX0_isDigit 6 = .ok (.iload_n 0, 1) := by decide +kernel
theorem dX0_isDigit_7 : decode cX0_isDigit 7 = .ok (.bipush 57, 2) := by decide +kernel
theorem dX0_isDigit_9 : decode cX0_isDigit 9 = .ok (.if_icmp .gt 7, 3) := by decide +kernel
theorem dX0_isDigit_12 : decode cX0_isDigit 12 = .ok (.iconst 1, 1) := by decide +kernel
theorem dX0_isDigit_13 : decode cX0_isDigit 13 = .ok (.goto 4, 3) := by decide +kernel
theorem dX0_isDigit_16 : decode cX0_isDigit 16 = .ok (.iconst 0, 1) := by decide +kernel
theorem dX0_isDigit_17 : decode cX0_isDigit 17 = .ok (.ireturn, 1) := by decide +kernel
abbrev cX0_give : ByteArray := prog_1_method_22_code
def yX0_give : MethodName := ⟨RX0, "give", "(LKnowHouse$Call;)V"⟩
theorem dX0_give_0 : decode cX0_give 0 = .ok (.ldc2_w 535, 3) := by decide +kernel
theorem dX0_give_3 : decode cX0_give 3 = .ok (.lstore_n 2, 1) := by decide +kernel
theorem dX0_give_4 : decode cX0_give 4 = .ok (.iconst 0, 1) := by decide +kernel
theorem dX0_give_5 : decode cX0_give 5 = .ok (.istore 4, 2) := by decide +kernel
theorem dX0_give_7 : decode cX0_give 7 = .ok (.aload_n 0, 1) := by decide +kernel
theorem dX0_give_8 : decode cX0_give 8 = .ok (.aload_n 1, 1) := by decide +kernel
theorem dX0_give_9 : decode cX0_give 9 = .ok (.getfield 509, 3) := by decide +kernel
theorem dX0_give_12 : decode cX0_give 12 = .ok (.aload_n 1, 1) := by decide +kernel
theorem dX0_give_13 : decode cX0_give 13 = .ok (.getfield 537, 3) := by decide +kernel
theorem dX0_give_16 : decode cX0_give 16 = .ok (.invokevirtual 540, 3) := by decide +kernel
theorem dX0_give_19 : decode cX0_give 19 = .ok (.lstore_n 2, 1) := by decide +kernel
theorem dX0_give_20 : decode cX0_give 20 = .ok (.goto 16, 3) := by decide +kernel
theorem dX0_give_23 : decode cX0_give 23 = .ok (.astore 5, 2) := by decide +kernel
theorem dX0_give_25 : decode cX0_give 25 = .ok (.iconst 1, 1) := by decide +kernel
theorem dX0_give_26 : decode cX0_give 26 = .ok (.istore 4, 2) := by decide +kernel
theorem dX0_give_28 : decode cX0_give 28 = .ok (.goto 8, 3) := by decide +kernel
theorem dX0_give_31 : decode cX0_give 31 = .ok (.astore 5, 2) := by decide +kernel
theorem dX0_give_33 : decode cX0_give 33 = .ok (.iconst 1, 1) := by decide +kernel
theorem dX0_give_34 : decode cX0_give 34 = .ok (.istore 4, 2) := by decide +kernel
theorem dX0_give_36 : decode cX0_give 36 = .ok (.aload_n 0, 1) := by decide +kernel
theorem dX0_give_37 : decode cX0_give 37 = .ok (.getfield 113, 3) := by decide +kernel
theorem dX0_give_40 : decode cX0_give 40 = .ok (.aload_n 0, 1) := by decide +kernel
theorem dX0_give_41 : decode cX0_give 41 = .ok (.getfield 476, 3) := by decide +kernel
theorem dX0_give_44 : decode cX0_give 44 = .ok (.lload_n 2, 1) := by decide +kernel
theorem dX0_give_45 : decode cX0_give 45 = .ok (.lastore, 1) := by decide +kernel
theorem dX0_give_46 : decode cX0_give 46 = .ok (.aload_n 0, 1) := by decide +kernel
theorem dX0_give_47 : decode cX0_give 47 = .ok (.getfield 116, 3) := by decide +kernel
theorem dX0_give_50 : decode cX0_give 50 = .ok (.aload_n 0, 1) := by decide +kernel
theorem dX0_give_51 : decode cX0_give 51 = .ok (.getfield 476, 3) := by decide +kernel
theorem dX0_give_54 : decode cX0_give 54 = .ok (.iload 4, 2) := by decide +kernel
theorem dX0_give_56 : decode cX0_give 56 = .ok (.bastore, 1) := by decide +kernel
theorem dX0_give_57 : decode cX0_give 57 = .ok (.aload_n 0, 1) := by decide +kernel
theorem dX0_give_58 : decode cX0_give 58 = .ok (.dup, 1) := by decide +kernel
theorem dX0_give_59 : decode cX0_give 59 = .ok (.getfield 476, 3) := by decide +kernel
theorem dX0_give_62 : decode cX0_give 62 = .ok (.iconst 1, 1) := by decide +kernel
theorem dX0_give_63 : decode cX0_give 63 = .ok (.iadd, 1) := by decide +kernel
theorem dX0_give_64 : decode cX0_give 64 = .ok (.putfield 476, 3) := by decide +kernel
theorem dX0_give_67 : decode cX0_give 67 = .ok (.return_, 1) := by decide +kernel
abbrev cX0_called : ByteArray := prog_1_method_26_code
def yX0_called : MethodName := ⟨RX0, "called", "(II)J"⟩
theorem dX0_called_0 : decode cX0_called 0 = .ok (.iload_n 1, 1) := by decide +kernel
theorem dX0_called_1 : decode cX0_called 1 = .ok (.tableswitch 135 0 11 #[63, 69, 75, 81, 87, 93, 99, 105, 111, 117, 123, 129], 63) := by decide +kernel
theorem dX0_called_64 : decode cX0_called 64 = .ok (.aload_n 0, 1) := by decide +kernel
theorem dX0_called_65 : decode cX0_called 65 = .ok (.iload_n 2, 1) := by decide +kernel
theorem dX0_called_66 : decode cX0_called 66 = .ok (.invokevirtual 548, 3) := by decide +kernel
theorem dX0_called_69 : decode cX0_called 69 = .ok (.lreturn, 1) := by decide +kernel
theorem dX0_called_70 : decode cX0_called 70 = .ok (.aload_n 0, 1) := by decide +kernel
theorem dX0_called_71 : decode cX0_called 71 = .ok (.iload_n 2, 1) := by decide +kernel
theorem dX0_called_72 : decode cX0_called 72 = .ok (.invokevirtual 552, 3) := by decide +kernel
theorem dX0_called_75 : decode cX0_called 75 = .ok (.lreturn, 1) := by decide +kernel
theorem dX0_called_76 : decode cX0_called 76 = .ok (.aload_n 0, 1) := by decide +kernel
theorem dX0_called_77 : decode cX0_called 77 = .ok (.iload_n 2, 1) := by decide +kernel
theorem dX0_called_78 : decode cX0_called 78 = .ok (.invokevirtual 555, 3) := by decide +kernel
theorem dX0_called_81 : decode cX0_called 81 = .ok (.lreturn, 1) := by decide +kernel
theorem dX0_called_82 : decode cX0_called 82 = .ok (.aload_n 0, 1) := by decide +kernel
theorem dX0_called_83 : decode cX0_called 83 = .ok (.iload_n 2, 1) := by decide +kernel
theorem dX0_called_84 : decode cX0_called 84 = .ok (.invokevirtual 558, 3) := by decide +kernel
theorem dX0_called_87 : decode cX0_called 87 = .ok (.lreturn, 1) := by decide +kernel
theorem dX0_called_88 : decode cX0_called 88 = .ok (.aload_n 0, 1) := by decide +kernel
theorem dX0_called_89 : decode cX0_called 89 = .ok (.iload_n 2, 1) := by decide +kernel
theorem dX0_called_90 : decode cX0_called 90 = .ok (.invokevirtual 561, 3) := by decide +kernel
theorem dX0_called_93 : decode cX0_called 93 = .ok (.lreturn, 1) := by decide +kernel
theorem dX0_called_94 : decode cX0_called 94 = .ok (.aload_n 0, 1) := by decide +kernel
theorem dX0_called_95 : decode cX0_called 95 = .ok (.iload_n 2, 1) := by decide +kernel
theorem dX0_called_96 : decode cX0_called 96 = .ok (.invokevirtual 564, 3) := by decide +kernel
theorem dX0_called_99 : decode cX0_called 99 = .ok (.lreturn, 1) := by decide +kernel
theorem dX0_called_100 : decode cX0_called 100 = .ok (.aload_n 0, 1) := by decide +kernel
theorem dX0_called_101 : decode cX0_called 101 = .ok (.iload_n 2, 1) := by decide +kernel
theorem dX0_called_102 : decode cX0_called 102 = .ok (.invokevirtual 567, 3) := by decide +kernel
theorem dX0_called_105 : decode cX0_called 105 = .ok (.lreturn, 1) := by decide +kernel
theorem dX0_called_106 : decode cX0_called 106 = .ok (.aload_n 0, 1) := by decide +kernel
theorem dX0_called_107 : decode cX0_called 107 = .ok (.iload_n 2, 1) := by decide +kernel
theorem dX0_called_108 : decode cX0_called 108 = .ok (.invokevirtual 570, 3) := by decide +kernel
theorem dX0_called_111 : decode cX0_called 111 = .ok (.lreturn, 1) := by decide +kernel
theorem dX0_called_112 : decode cX0_called 112 = .ok (.aload_n 0, 1) := by decide +kernel
theorem dX0_called_113 : decode cX0_called 113 = .ok (.iload_n 2, 1) := by decide +kernel
theorem dX0_called_114 : decode cX0_called 114 = .ok (.invokevirtual 573, 3) := by decide +kernel
theorem dX0_called_117 : decode cX0_called 117 = .ok (.lreturn, 1) := by decide +kernel
theorem dX0_called_118 : decode cX0_called 118 = .ok (.aload_n 0, 1) := by decide +kernel
theorem dX0_called_119 : decode cX0_called 119 = .ok (.iload_n 2, 1) := by decide +kernel
theorem dX0_called_120 : decode cX0_called 120 = .ok (.invokevirtual 576, 3) := by decide +kernel
theorem dX0_called_123 : decode cX0_called 123 = .ok (.lreturn, 1) := by decide +kernel
theorem dX0_called_124 : decode cX0_called 124 = .ok (.aload_n 0, 1) := by decide +kernel
theorem dX0_called_125 : decode cX0_called 125 = .ok (.iload_n 2, 1) := by decide +kernel
theorem dX0_called_126 : decode cX0_called 126 = .ok (.invokevirtual 579, 3) := by decide +kernel
theorem dX0_called_129 : decode cX0_called 129 = .ok (.lreturn, 1) := by decide +kernel
theorem dX0_called_130 : decode cX0_called 130 = .ok (.aload_n 0, 1) := by decide +kernel
theorem dX0_called_131 : decode cX0_called 131 = .ok (.iload_n 2, 1) := by decide +kernel
theorem dX0_called_132 : decode cX0_called 132 = .ok (.invokevirtual 582, 3) := by decide +kernel
theorem dX0_called_135 : decode cX0_called 135 = .ok (.lreturn, 1) := by decide +kernel
theorem dX0_called_136 : decode cX0_called 136 = .ok (.ldc2_w 535, 3) := by decide +kernel
theorem dX0_called_139 : decode cX0_called 139 = .ok (.lreturn, 1) := by decide +kernel
abbrev cX0_houseCall : ByteArray := prog_1_method_38_code
def yX0_houseCall : MethodName := ⟨RX0, "houseCall", "(I)J"⟩
theorem dX0_houseCall_0 : decode cX0_houseCall 0 = .ok (.iload_n 1, 1) := by decide +kernel
theorem dX0_houseCall_1 : decode cX0_houseCall 1 = .ok (.tableswitch 180 0 9 #[55, 76, 82, 88, 104, 120, 126, 147, 158, 164], 55) := by decide +kernel
theorem dX0_houseCall_56 : decode cX0_houseCall 56 = .ok (.aload_n 0, 1) := by decide +kernel
theorem dX0_houseCall_57 : decode cX0_houseCall 57 = .ok (.aload_n 0, 1) := by decide +kernel
theorem dX0_houseCall_58 : decode cX0_houseCall 58 = .ok (.iconst 0, 1) := by decide +kernel
theorem dX0_houseCall_59 : decode cX0_houseCall 59 = .ok (.invokevirtual 587, 3) := by decide +kernel
theorem dX0_houseCall_62 : decode cX0_houseCall 62 = .ok (.aload_n 0, 1) := by decide +kernel
theorem dX0_houseCall_63 : decode cX0_houseCall 63 = .ok (.iconst 1, 1) := by decide +kernel
theorem dX0_houseCall_64 : decode cX0_houseCall 64 = .ok (.invokevirtual 587, 3) := by decide +kernel
theorem dX0_houseCall_67 : decode cX0_houseCall 67 = .ok (.aload_n 0, 1) := by decide +kernel
theorem dX0_houseCall_68 : decode cX0_houseCall 68 = .ok (.iconst 2, 1) := by decide +kernel
theorem dX0_houseCall_69 : decode cX0_houseCall 69 = .ok (.invokevirtual 626, 3) := by decide +kernel
theorem dX0_houseCall_72 : decode cX0_houseCall 72 = .ok (.invokevirtual 902, 3) := by decide +kernel
theorem dX0_houseCall_75 : decode cX0_houseCall 75 = .ok (.i2l, 1) := by decide +kernel
theorem dX0_houseCall_76 : decode cX0_houseCall 76 = .ok (.lreturn, 1) := by decide +kernel
theorem dX0_houseCall_77 : decode cX0_houseCall 77 = .ok (.aload_n 0, 1) := by decide +kernel
theorem dX0_houseCall_78 : decode cX0_houseCall 78 = .ok (.invokevirtual 904, 3) := by decide +kernel
theorem dX0_houseCall_81 : decode cX0_houseCall 81 = .ok (.i2l, 1) := by decide +kernel
theorem dX0_houseCall_82 : decode cX0_houseCall 82 = .ok (.lreturn, 1) := by decide +kernel
theorem dX0_houseCall_83 : decode cX0_houseCall 83 = .ok (.aload_n 0, 1) := by decide +kernel
theorem dX0_houseCall_84 : decode cX0_houseCall 84 = .ok (.invokevirtual 906, 3) := by decide +kernel
theorem dX0_houseCall_87 : decode cX0_houseCall 87 = .ok (.i2l, 1) := by decide +kernel
theorem dX0_houseCall_88 : decode cX0_houseCall 88 = .ok (.lreturn, 1) := by decide +kernel
theorem dX0_houseCall_89 : decode cX0_houseCall 89 = .ok (.aload_n 0, 1) := by decide +kernel
theorem dX0_houseCall_90 : decode cX0_houseCall 90 = .ok (.aload_n 0, 1) := by decide +kernel
theorem dX0_houseCall_91 : decode cX0_houseCall 91 = .ok (.iconst 0, 1) := by decide +kernel
theorem dX0_houseCall_92 : decode cX0_houseCall 92 = .ok (.invokevirtual 587, 3) := by decide +kernel
theorem dX0_houseCall_95 : decode cX0_houseCall 95 = .ok (.aload_n 0, 1) := by decide +kernel
theorem dX0_houseCall_96 : decode cX0_houseCall 96 = .ok (.iconst 1, 1) := by decide +kernel
theorem dX0_houseCall_97 : decode cX0_houseCall 97 = .ok (.invokevirtual 587, 3) := by decide +kernel
theorem dX0_houseCall_100 : decode cX0_houseCall 100 = .ok (.invokevirtual 908, 3) := by decide +kernel
theorem dX0_houseCall_103 : decode cX0_houseCall 103 = .ok (.i2l, 1) := by decide +kernel
theorem dX0_houseCall_104 : decode cX0_houseCall 104 = .ok (.lreturn, 1) := by decide +kernel
theorem dX0_houseCall_105 : decode cX0_houseCall 105 = .ok (.aload_n 0, 1) := by decide +kernel
theorem dX0_houseCall_106 : decode cX0_houseCall 106 = .ok (.aload_n 0, 1) := by decide +kernel
theorem dX0_houseCall_107 : decode cX0_houseCall 107 = .ok (.iconst 0, 1) := by decide +kernel
theorem dX0_houseCall_108 : decode cX0_houseCall 108 = .ok (.invokevirtual 587, 3) := by decide +kernel
theorem dX0_houseCall_111 : decode cX0_houseCall 111 = .ok (.aload_n 0, 1) := by decide +kernel
theorem dX0_houseCall_112 : decode cX0_houseCall 112 = .ok (.iconst 1, 1) := by decide +kernel
theorem dX0_houseCall_113 : decode cX0_houseCall 113 = .ok (.invokevirtual 587, 3) := by decide +kernel
theorem dX0_houseCall_116 : decode cX0_houseCall 116 = .ok (.invokevirtual 910, 3) := by decide +kernel
theorem dX0_houseCall_119 : decode cX0_houseCall 119 = .ok (.i2l, 1) := by decide +kernel
theorem dX0_houseCall_120 : decode cX0_houseCall 120 = .ok (.lreturn, 1) := by decide +kernel
theorem dX0_houseCall_121 : decode cX0_houseCall 121 = .ok (.aload_n 0, 1) := by decide +kernel
theorem dX0_houseCall_122 : decode cX0_houseCall 122 = .ok (.invokevirtual 912, 3) := by decide +kernel
theorem dX0_houseCall_125 : decode cX0_houseCall 125 = .ok (.i2l, 1) := by decide +kernel
theorem dX0_houseCall_126 : decode cX0_houseCall 126 = .ok (.lreturn, 1) := by decide +kernel
theorem dX0_houseCall_127 : decode cX0_houseCall 127 = .ok (.aload_n 0, 1) := by decide +kernel
theorem dX0_houseCall_128 : decode cX0_houseCall 128 = .ok (.aload_n 0, 1) := by decide +kernel
theorem dX0_houseCall_129 : decode cX0_houseCall 129 = .ok (.iconst 0, 1) := by decide +kernel
theorem dX0_houseCall_130 : decode cX0_houseCall 130 = .ok (.invokevirtual 587, 3) := by decide +kernel
theorem dX0_houseCall_133 : decode cX0_houseCall 133 = .ok (.aload_n 0, 1) := by decide +kernel
theorem dX0_houseCall_134 : decode cX0_houseCall 134 = .ok (.iconst 1, 1) := by decide +kernel
theorem dX0_houseCall_135 : decode cX0_houseCall 135 = .ok (.invokevirtual 587, 3) := by decide +kernel
theorem dX0_houseCall_138 : decode cX0_houseCall 138 = .ok (.aload_n 0, 1) := by decide +kernel
theorem dX0_houseCall_139 : decode cX0_houseCall 139 = .ok (.iconst 2, 1) := by decide +kernel
theorem dX0_houseCall_140 : decode cX0_houseCall 140 = .ok (.invokevirtual 587, 3) := by decide +kernel
theorem dX0_houseCall_143 : decode cX0_houseCall 143 = .ok (.invokevirtual 914, 3) := by decide +kernel
theorem dX0_houseCall_146 : decode cX0_houseCall 146 = .ok (.i2l, 1) := by decide +kernel
theorem dX0_houseCall_147 : decode cX0_houseCall 147 = .ok (.lreturn, 1) := by decide +kernel
theorem dX0_houseCall_148 : decode cX0_houseCall 148 = .ok (.aload_n 0, 1) := by decide +kernel
theorem dX0_houseCall_149 : decode cX0_houseCall 149 = .ok (.aload_n 0, 1) := by decide +kernel
theorem dX0_houseCall_150 : decode cX0_houseCall 150 = .ok (.iconst 0, 1) := by decide +kernel
theorem dX0_houseCall_151 : decode cX0_houseCall 151 = .ok (.invokevirtual 587, 3) := by decide +kernel
theorem dX0_houseCall_154 : decode cX0_houseCall 154 = .ok (.invokevirtual 916, 3) := by decide +kernel
theorem dX0_houseCall_157 : decode cX0_houseCall 157 = .ok (.i2l, 1) := by decide +kernel
theorem dX0_houseCall_158 : decode cX0_houseCall 158 = .ok (.lreturn, 1) := by decide +kernel
theorem dX0_houseCall_159 : decode cX0_houseCall 159 = .ok (.aload_n 0, 1) := by decide +kernel
theorem dX0_houseCall_160 : decode cX0_houseCall 160 = .ok (.invokevirtual 918, 3) := by decide +kernel
theorem dX0_houseCall_163 : decode cX0_houseCall 163 = .ok (.i2l, 1) := by decide +kernel
theorem dX0_houseCall_164 : decode cX0_houseCall 164 = .ok (.lreturn, 1) := by decide +kernel
theorem dX0_houseCall_165 : decode cX0_houseCall 165 = .ok (.aload_n 0, 1) := by decide +kernel
theorem dX0_houseCall_166 : decode cX0_houseCall 166 = .ok (.aload_n 0, 1) := by decide +kernel
theorem dX0_houseCall_167 : decode cX0_houseCall 167 = .ok (.iconst 0, 1) := by decide +kernel
theorem dX0_houseCall_168 : decode cX0_houseCall 168 = .ok (.invokevirtual 587, 3) := by decide +kernel
theorem dX0_houseCall_171 : decode cX0_houseCall 171 = .ok (.aload_n 0, 1) := by decide +kernel
theorem dX0_houseCall_172 : decode cX0_houseCall 172 = .ok (.iconst 1, 1) := by decide +kernel
theorem dX0_houseCall_173 : decode cX0_houseCall 173 = .ok (.invokevirtual 587, 3) := by decide +kernel
theorem dX0_houseCall_176 : decode cX0_houseCall 176 = .ok (.invokevirtual 920, 3) := by decide +kernel
theorem dX0_houseCall_179 : decode cX0_houseCall 179 = .ok (.i2l, 1) := by decide +kernel
theorem dX0_houseCall_180 : decode cX0_houseCall 180 = .ok (.lreturn, 1) := by decide +kernel
theorem dX0_houseCall_181 : decode cX0_houseCall 181 = .ok (.ldc2_w 535, 3) := by decide +kernel
theorem dX0_houseCall_184 : decode cX0_houseCall 184 = .ok (.lreturn, 1) := by decide +kernel
abbrev cX0_num : ByteArray := prog_1_method_23_code
def yX0_num : MethodName := ⟨RX0, "num", "(I)I"⟩
theorem dX0_num_0 : decode cX0_num 0 = .ok (.aload_n 0, 1) := by decide +kernel
theorem dX0_num_1 : decode cX0_num 1 = .ok (.getfield 109, 3) := by decide +kernel
theorem dX0_num_4 : decode cX0_num 4 = .ok (.iload_n 1, 1) := by decide +kernel
theorem dX0_num_5 : decode cX0_num 5 = .ok (.laload, 1) := by decide +kernel
theorem dX0_num_6 : decode cX0_num 6 = .ok (.l2i, 1) := by decide +kernel
theorem dX0_num_7 : decode cX0_num 7 = .ok (.ireturn, 1) := by decide +kernel
abbrev cX0_flag : ByteArray := prog_1_method_24_code
def yX0_flag : MethodName := ⟨RX0, "flag", "(I)Z"⟩
theorem dX0_flag_0 : decode cX0_flag 0 = .ok (.aload_n 0, 1) := by decide +kernel
theorem dX0_flag_1 : decode cX0_flag 1 = .ok (.getfield 109, 3) := by decide +kernel
theorem dX0_flag_4 : decode cX0_flag 4 = .ok (.iload_n 1, 1) := by decide +kernel
theorem dX0_flag_5 : decode cX0_flag 5 = .ok (.laload, 1) := by decide +kernel
theorem dX0_flag_6 : decode cX0_flag 6 = .ok (.lconst 1, 1) := by decide +kernel
theorem dX0_flag_7 : decode cX0_flag 7 = .ok (.lcmp, 1) := by decide +kernel
theorem dX0_flag_8 : decode cX0_flag 8 = .ok (.ifCond .ne 7, 3) := by decide +kernel
theorem dX0_flag_11 : decode cX0_flag 11 = .ok (.iconst 1, 1) := by decide +kernel
theorem dX0_flag_12 : decode cX0_flag 12 = .ok (.goto 4, 3) := by decide +kernel
theorem dX0_flag_15 : decode cX0_flag 15 = .ok (.iconst 0, 1) := by decide +kernel
theorem dX0_flag_16 : decode cX0_flag 16 = .ok (.ireturn, 1) := by decide +kernel
abbrev cX0_say : ByteArray := prog_1_method_44_code
def yX0_say : MethodName := ⟨RX0, "say", "(IIZ)I"⟩
theorem dX0_say_0 : decode cX0_say 0 = .ok (.iload_n 2, 1) := by decide +kernel
theorem dX0_say_1 : decode cX0_say 1 = .ok (.ifCond .lt 10, 3) := by decide +kernel
theorem dX0_say_4 : decode cX0_say 4 = .ok (.iload_n 2, 1) := by decide +kernel
theorem dX0_say_5 : decode cX0_say 5 = .ok (.sipush 200, 3) := by decide +kernel
theorem dX0_say_8 : decode cX0_say 8 = .ok (.if_icmp .lt 5, 3) := by decide +kernel
theorem dX0_say_11 : decode cX0_say 11 = .ok (.iconst (-1), 1) := by decide +kernel
theorem dX0_say_12 : decode cX0_say 12 = .ok (.ireturn, 1) := by decide +kernel
theorem dX0_say_13 : decode cX0_say 13 = .ok (.aload_n 0, 1) := by decide +kernel
theorem dX0_say_14 : decode cX0_say 14 = .ok (.getfield 29, 3) := by decide +kernel
theorem dX0_say_17 : decode cX0_say 17 = .ok (.invokevirtual 654, 3) := by decide +kernel
theorem dX0_say_20 : decode cX0_say 20 = .ok (.istore 4, 2) := by decide +kernel
theorem dX0_say_22 : decode cX0_say 22 = .ok (.aload_n 0, 1) := by decide +kernel
theorem dX0_say_23 : decode cX0_say 23 = .ok (.getfield 50, 3) := by decide +kernel
theorem dX0_say_26 : decode cX0_say 26 = .ok (.iload_n 1, 1) := by decide +kernel
theorem dX0_say_27 : decode cX0_say 27 = .ok (.iload_n 2, 1) := by decide +kernel
theorem dX0_say_28 : decode cX0_say 28 = .ok (.bipush 50, 2) := by decide +kernel
theorem dX0_say_30 : decode cX0_say 30 = .ok (.idiv, 1) := by decide +kernel
theorem dX0_say_31 : decode cX0_say 31 = .ok (.iload_n 2, 1) := by decide +kernel
theorem dX0_say_32 : decode cX0_say 32 = .ok (.invokestatic 927, 3) := by decide +kernel
theorem dX0_say_35 : decode cX0_say 35 = .ok (.iload_n 2, 1) := by decide +kernel
theorem dX0_say_36 : decode cX0_say 36 = .ok (.invokestatic 930, 3) := by decide +kernel
theorem dX0_say_39 : decode cX0_say 39 = .ok (.iload 4, 2) := by decide +kernel
theorem dX0_say_41 : decode cX0_say 41 = .ok (.bipush 7, 2) := by decide +kernel
theorem dX0_say_43 : decode cX0_say 43 = .ok (.if_icmp .le 8, 3) := by decide +kernel
theorem dX0_say_46 : decode cX0_say 46 = .ok (.bipush 7, 2) := by decide +kernel
theorem dX0_say_48 : decode cX0_say 48 = .ok (.goto 5, 3) := by decide +kernel
theorem dX0_say_51 : decode cX0_say 51 = .ok (.iload 4, 2) := by decide +kernel
theorem dX0_say_53 : decode cX0_say 53 = .ok (.iconst 0, 1) := by decide +kernel
theorem dX0_say_54 : decode cX0_say 54 = .ok (.invokevirtual 723, 3) := by decide +kernel
theorem dX0_say_57 : decode cX0_say 57 = .ok (.iconst 1, 1) := by decide +kernel
theorem dX0_say_58 : decode cX0_say 58 = .ok (.if_icmp .eq 6, 3) := by decide +kernel
theorem dX0_say_61 : decode cX0_say 61 = .ok (.bipush (-2), 2) := by decide +kernel
theorem dX0_say_63 : decode cX0_say 63 = .ok (.ireturn, 1) := by decide +kernel
theorem dX0_say_64 : decode cX0_say 64 = .ok (.aload_n 0, 1) := by decide +kernel
theorem dX0_say_65 : decode cX0_say 65 = .ok (.invokevirtual 932, 3) := by decide +kernel
theorem dX0_say_68 : decode cX0_say 68 = .ok (.istore 5, 2) := by decide +kernel
theorem dX0_say_70 : decode cX0_say 70 = .ok (.iload 5, 2) := by decide +kernel
theorem dX0_say_72 : decode cX0_say 72 = .ok (.ifCond .ge 6, 3) := by decide +kernel
theorem dX0_say_75 : decode cX0_say 75 = .ok (.bipush (-3), 2) := by decide +kernel
theorem dX0_say_77 : decode cX0_say 77 = .ok (.ireturn, 1) := by decide +kernel
theorem dX0_say_78 : decode cX0_say 78 = .ok (.aload_n 0, 1) := by decide +kernel
theorem dX0_say_79 : decode cX0_say 79 = .ok (.getfield 29, 3) := by decide +kernel
theorem dX0_say_82 : decode cX0_say 82 = .ok (.iload 5, 2) := by decide +kernel
theorem dX0_say_84 : decode cX0_say 84 = .ok (.iload_n 2, 1) := by decide +kernel
theorem dX0_say_85 : decode cX0_say 85 = .ok (.iload_n 3, 1) := by decide +kernel
theorem dX0_say_86 : decode cX0_say 86 = .ok (.invokevirtual 629, 3) := by decide +kernel
theorem dX0_say_89 : decode cX0_say 89 = .ok (.iconst 1, 1) := by decide +kernel
theorem dX0_say_90 : decode cX0_say 90 = .ok (.if_icmp .eq 16, 3) := by decide +kernel
theorem dX0_say_93 : decode cX0_say 93 = .ok (.aload_n 0, 1) := by decide +kernel
theorem dX0_say_94 : decode cX0_say 94 = .ok (.getfield 29, 3) := by decide +kernel
theorem dX0_say_97 : decode cX0_say 97 = .ok (.iload 5, 2) := by decide +kernel
theorem dX0_say_99 : decode cX0_say 99 = .ok (.invokevirtual 644, 3) := by decide +kernel
theorem dX0_say_102 : decode cX0_say 102 = .ok (.pop, 1) := by decide +kernel
theorem dX0_say_103 : decode cX0_say 103 = .ok (.bipush (-4), 2) := by decide +kernel
theorem dX0_say_105 : decode cX0_say 105 = .ok (.ireturn, 1) := by decide +kernel
theorem dX0_say_106 : decode cX0_say 106 = .ok (.aload_n 0, 1) := by decide +kernel
theorem dX0_say_107 : decode cX0_say 107 = .ok (.getfield 29, 3) := by decide +kernel
theorem dX0_say_110 : decode cX0_say 110 = .ok (.iload 5, 2) := by decide +kernel
theorem dX0_say_112 : decode cX0_say 112 = .ok (.invokevirtual 642, 3) := by decide +kernel
theorem dX0_say_115 : decode cX0_say 115 = .ok (.istore 6, 2) := by decide +kernel
theorem dX0_say_117 : decode cX0_say 117 = .ok (.iload 6, 2) := by decide +kernel
theorem dX0_say_119 : decode cX0_say 119 = .ok (.iload 4, 2) := by decide +kernel
theorem dX0_say_121 : decode cX0_say 121 = .ok (.if_icmp .le 18, 3) := by decide +kernel
theorem dX0_say_124 : decode cX0_say 124 = .ok (.aload_n 0, 1) := by decide +kernel
theorem dX0_say_125 : decode cX0_say 125 = .ok (.iload_n 2, 1) := by decide +kernel
theorem dX0_say_126 : decode cX0_say 126 = .ok (.iload_n 3, 1) := by decide +kernel
theorem dX0_say_127 : decode cX0_say 127 = .ok (.invokevirtual 935, 3) := by decide +kernel
theorem dX0_say_130 : decode cX0_say 130 = .ok (.pop, 1) := by decide +kernel
theorem dX0_say_131 : decode cX0_say 131 = .ok (.aload_n 0, 1) := by decide +kernel
theorem dX0_say_132 : decode cX0_say 132 = .ok (.iconst 0, 1) := by decide +kernel
theorem dX0_say_133 : decode cX0_say 133 = .ok (.iload_n 2, 1) := by decide +kernel
theorem dX0_say_134 : decode cX0_say 134 = .ok (.iload 6, 2) := by decide +kernel
theorem dX0_say_136 : decode cX0_say 136 = .ok (.invokevirtual 938, 3) := by decide +kernel
theorem dX0_say_139 : decode cX0_say 139 = .ok (.iload 6, 2) := by decide +kernel
theorem dX0_say_141 : decode cX0_say 141 = .ok (.ireturn, 1) := by decide +kernel
abbrev cX0_head : ByteArray := prog_1_method_40_code
def yX0_head : MethodName := ⟨RX0, "head", "(I)I"⟩
theorem dX0_head_0 : decode cX0_head 0 = .ok (.iload_n 0, 1) := by decide +kernel
theorem dX0_head_1 : decode cX0_head 1 = .ok (.iconst 4, 1) := by decide +kernel
theorem dX0_head_2 : decode cX0_head 2 = .ok (.idiv, 1) := by decide +kernel
theorem dX0_head_3 : decode cX0_head 3 = .ok (.iconst 5, 1) := by decide +kernel
theorem dX0_head_4 : decode cX0_head 4 = .ok (.irem, 1) := by decide +kernel
theorem dX0_head_5 : decode cX0_head 5 = .ok (.ireturn, 1) := by decide +kernel
abbrev cX0_value : ByteArray := prog_1_method_41_code
def yX0_value : MethodName := ⟨RX0, "value", "(I)I"⟩
theorem dX0_value_0 : decode cX0_value 0 = .ok (.iload_n 0, 1) := by decide +kernel
theorem dX0_value_1 : decode cX0_value 1 = .ok (.iconst 4, 1) := by decide +kernel
theorem dX0_value_2 : decode cX0_value 2 = .ok (.irem, 1) := by decide +kernel
theorem dX0_value_3 : decode cX0_value 3 = .ok (.ireturn, 1) := by decide +kernel
abbrev cX0_begun : ByteArray := prog_1_method_45_code
def yX0_begun : MethodName := ⟨RX0, "begun", "()I"⟩
theorem dX0_begun_0 : decode cX0_begun 0 = .ok (.aload_n 0, 1) := by decide +kernel
theorem dX0_begun_1 : decode cX0_begun 1 = .ok (.getfield 29, 3) := by decide +kernel
theorem dX0_begun_4 : decode cX0_begun 4 = .ok (.invokevirtual 622, 3) := by decide +kernel
theorem dX0_begun_7 : decode cX0_begun 7 = .ok (.ireturn, 1) := by decide +kernel
theorem dX0_begun_8 : decode cX0_begun 8 = .ok (.astore_n 1, 1) := by decide +kernel
theorem dX0_begun_9 : decode cX0_begun 9 = .ok (.iconst (-1), 1) := by decide +kernel
theorem dX0_begun_10 : decode cX0_begun 10 = .ok (.ireturn, 1) := by decide +kernel
abbrev cX0_tell : ByteArray := prog_1_method_43_code
def yX0_tell : MethodName := ⟨RX0, "tell", "(IZ)I"⟩
theorem dX0_tell_0 : decode cX0_tell 0 = .ok (.iload_n 2, 1) := by decide +kernel
theorem dX0_tell_1 : decode cX0_tell 1 = .ok (.ifCond .eq 45, 3) := by decide +kernel
theorem dX0_tell_4 : decode cX0_tell 4 = .ok (.aload_n 0, 1) := by decide +kernel
theorem dX0_tell_5 : decode cX0_tell 5 = .ok (.getfield 64, 3) := by decide +kernel
theorem dX0_tell_8 : decode cX0_tell 8 = .ok (.iload_n 1, 1) := by decide +kernel
theorem dX0_tell_9 : decode cX0_tell 9 = .ok (.invokestatic 925, 3) := by decide +kernel
theorem dX0_tell_12 : decode cX0_tell 12 = .ok (.iload_n 1, 1) := by decide +kernel
theorem dX0_tell_13 : decode cX0_tell 13 = .ok (.invokestatic 927, 3) := by decide +kernel
theorem dX0_tell_16 : decode cX0_tell 16 = .ok (.iload_n 1, 1) := by decide +kernel
theorem dX0_tell_17 : decode cX0_tell 17 = .ok (.invokestatic 930, 3) := by decide +kernel
theorem dX0_tell_20 : decode cX0_tell 20 = .ok (.invokevirtual 781, 3) := by decide +kernel
theorem dX0_tell_23 : decode cX0_tell 23 = .ok (.istore_n 3, 1) := by decide +kernel
theorem dX0_tell_24 : decode cX0_tell 24 = .ok (.aload_n 0, 1) := by decide +kernel
theorem dX0_tell_25 : decode cX0_tell 25 = .ok (.getfield 78, 3) := by decide +kernel
theorem dX0_tell_28 : decode cX0_tell 28 = .ok (.iload_n 1, 1) := by decide +kernel
theorem dX0_tell_29 : decode cX0_tell 29 = .ok (.invokestatic 927, 3) := by decide +kernel
theorem dX0_tell_32 : decode cX0_tell 32 = .ok (.iload_n 1, 1) := by decide +kernel
theorem dX0_tell_33 : decode cX0_tell 33 = .ok (.invokestatic 925, 3) := by decide +kernel
theorem dX0_tell_36 : decode cX0_tell 36 = .ok (.iload_n 1, 1) := by decide +kernel
theorem dX0_tell_37 : decode cX0_tell 37 = .ok (.invokestatic 930, 3) := by decide +kernel
theorem dX0_tell_40 : decode cX0_tell 40 = .ok (.invokevirtual 828, 3) := by decide +kernel
theorem dX0_tell_43 : decode cX0_tell 43 = .ok (.pop, 1) := by decide +kernel
theorem dX0_tell_44 : decode cX0_tell 44 = .ok (.iload_n 3, 1) := by decide +kernel
theorem dX0_tell_45 : decode cX0_tell 45 = .ok (.ireturn, 1) := by decide +kernel
theorem dX0_tell_46 : decode cX0_tell 46 = .ok (.aload_n 0, 1) := by decide +kernel
theorem dX0_tell_47 : decode cX0_tell 47 = .ok (.getfield 64, 3) := by decide +kernel
theorem dX0_tell_50 : decode cX0_tell 50 = .ok (.iload_n 1, 1) := by decide +kernel
theorem dX0_tell_51 : decode cX0_tell 51 = .ok (.invokestatic 925, 3) := by decide +kernel
theorem dX0_tell_54 : decode cX0_tell 54 = .ok (.iload_n 1, 1) := by decide +kernel
theorem dX0_tell_55 : decode cX0_tell 55 = .ok (.invokestatic 927, 3) := by decide +kernel
theorem dX0_tell_58 : decode cX0_tell 58 = .ok (.iload_n 1, 1) := by decide +kernel
theorem dX0_tell_59 : decode cX0_tell 59 = .ok (.invokestatic 930, 3) := by decide +kernel
theorem dX0_tell_62 : decode cX0_tell 62 = .ok (.invokevirtual 782, 3) := by decide +kernel
theorem dX0_tell_65 : decode cX0_tell 65 = .ok (.istore_n 3, 1) := by decide +kernel
theorem dX0_tell_66 : decode cX0_tell 66 = .ok (.aload_n 0, 1) := by decide +kernel
theorem dX0_tell_67 : decode cX0_tell 67 = .ok (.getfield 78, 3) := by decide +kernel
theorem dX0_tell_70 : decode cX0_tell 70 = .ok (.iload_n 1, 1) := by decide +kernel
theorem dX0_tell_71 : decode cX0_tell 71 = .ok (.invokestatic 927, 3) := by decide +kernel
theorem dX0_tell_74 : decode cX0_tell 74 = .ok (.iload_n 1, 1) := by decide +kernel
theorem dX0_tell_75 : decode cX0_tell 75 = .ok (.invokestatic 925, 3) := by decide +kernel
theorem dX0_tell_78 : decode cX0_tell 78 = .ok (.iload_n 1, 1) := by decide +kernel
theorem dX0_tell_79 : decode cX0_tell 79 = .ok (.invokestatic 930, 3) := by decide +kernel
theorem dX0_tell_82 : decode cX0_tell 82 = .ok (.invokevirtual 830, 3) := by decide +kernel
theorem dX0_tell_85 : decode cX0_tell 85 = .ok (.pop, 1) := by decide +kernel
theorem dX0_tell_86 : decode cX0_tell 86 = .ok (.iload_n 3, 1) := by decide +kernel
theorem dX0_tell_87 : decode cX0_tell 87 = .ok (.ireturn, 1) := by decide +kernel
abbrev cX0_thing : ByteArray := prog_1_method_39_code
def yX0_thing : MethodName := ⟨RX0, "thing", "(I)I"⟩
theorem dX0_thing_0 : decode cX0_thing 0 = .ok (.iload_n 0, 1) := by decide +kernel
theorem dX0_thing_1 : decode cX0_thing 1 = .ok (.bipush 20, 2) := by decide +kernel
theorem dX0_thing_3 : decode cX0_thing 3 = .ok (.idiv, 1) := by decide +kernel
theorem dX0_thing_4 : decode cX0_thing 4 = .ok (.ireturn, 1) := by decide +kernel
abbrev cX0_enter : ByteArray := prog_1_method_42_code
def yX0_enter : MethodName := ⟨RX0, "enter", "(III)V"⟩
theorem dX0_enter_0 : decode cX0_enter 0 = .ok (.aload_n 0, 1) := by decide +kernel
theorem dX0_enter_1 : decode cX0_enter 1 = .ok (.getfield 922, 3) := by decide +kernel
theorem dX0_enter_4 : decode cX0_enter 4 = .ok (.sipush 400, 3) := by decide +kernel
theorem dX0_enter_7 : decode cX0_enter 7 = .ok (.if_icmp .ge 43, 3) := by decide +kernel
theorem dX0_enter_10 : decode cX0_enter 10 = .ok (.aload_n 0, 1) := by decide +kernel
theorem dX0_enter_11 : decode cX0_enter 11 = .ok (.getfield 124, 3) := by decide +kernel
theorem dX0_enter_14 : decode cX0_enter 14 = .ok (.iconst 3, 1) := by decide +kernel
theorem dX0_enter_15 : decode cX0_enter 15 = .ok (.aload_n 0, 1) := by decide +kernel
theorem dX0_enter_16 : decode cX0_enter 16 = .ok (.getfield 922, 3) := by decide +kernel
theorem dX0_enter_19 : decode cX0_enter 19 = .ok (.imul, 1) := by decide +kernel
theorem dX0_enter_20 : decode cX0_enter 20 = .ok (.iload_n 1, 1) := by decide +kernel
theorem dX0_enter_21 : decode cX0_enter 21 = .ok (.iastore, 1) := by decide +kernel
theorem dX0_enter_22 : decode cX0_enter 22 = .ok (.aload_n 0, 1) := by decide +kernel
theorem dX0_enter_23 : decode cX0_enter 23 = .ok (.getfield 124, 3) := by decide +kernel
theorem dX0_enter_26 : decode cX0_enter 26 = .ok (.iconst 3, 1) := by decide +kernel
theorem dX0_enter_27 : decode cX0_enter 27 = .ok (.aload_n 0, 1) := by decide +kernel
theorem dX0_enter_28 : decode cX0_enter 28 = .ok (.getfield 922, 3) := by decide +kernel
theorem dX0_enter_31 : decode cX0_enter 31 = .ok (.imul, 1) := by decide +kernel
theorem dX0_enter_32 : decode cX0_enter 32 = .ok (.iconst 1, 1) := by decide +kernel
theorem dX0_enter_33 : decode cX0_enter 33 = .ok (.iadd, 1) := by decide +kernel
theorem dX0_enter_34 : decode cX0_enter 34 = .ok (.iload_n 2, 1) := by decide +kernel
theorem dX0_enter_35 : decode cX0_enter 35 = .ok (.iastore, 1) := by decide +kernel
theorem dX0_enter_36 : decode cX0_enter 36 = .ok (.aload_n 0, 1) := by decide +kernel
theorem dX0_enter_37 : decode cX0_enter 37 = .ok (.getfield 124, 3) := by decide +kernel
theorem dX0_enter_40 : decode cX0_enter 40 = .ok (.iconst 3, 1) := by decide +kernel
theorem dX0_enter_41 : decode cX0_enter 41 = .ok (.aload_n 0, 1) := by decide +kernel
theorem dX0_enter_42 : decode cX0_enter 42 = .ok (.getfield 922, 3) := by decide +kernel
theorem dX0_enter_45 : decode cX0_enter 45 = .ok (.imul, 1) := by decide +kernel
theorem dX0_enter_46 : decode cX0_enter 46 = .ok (.iconst 2, 1) := by decide +kernel
theorem dX0_enter_47 : decode cX0_enter 47 = .ok (.iadd, 1) := by decide +kernel
theorem dX0_enter_48 : decode cX0_enter 48 = .ok (.iload_n 3, 1) := by decide +kernel
theorem dX0_enter_49 : decode cX0_enter 49 = .ok (.iastore, 1) := by decide +kernel
theorem dX0_enter_50 : decode cX0_enter 50 = .ok (.aload_n 0, 1) := by decide +kernel
theorem dX0_enter_51 : decode cX0_enter 51 = .ok (.dup, 1) := by decide +kernel
theorem dX0_enter_52 : decode cX0_enter 52 = .ok (.getfield 922, 3) := by decide +kernel
theorem dX0_enter_55 : decode cX0_enter 55 = .ok (.iconst 1, 1) := by decide +kernel
theorem dX0_enter_56 : decode cX0_enter 56 = .ok (.iadd, 1) := by decide +kernel
theorem dX0_enter_57 : decode cX0_enter 57 = .ok (.putfield 922, 3) := by decide +kernel
theorem dX0_enter_60 : decode cX0_enter 60 = .ok (.return_, 1) := by decide +kernel
abbrev cX0_level : ByteArray := prog_1_method_46_code
def yX0_level : MethodName := ⟨RX0, "level", "()I"⟩
theorem dX0_level_0 : decode cX0_level 0 = .ok (.iconst 0, 1) := by decide +kernel
theorem dX0_level_1 : decode cX0_level 1 = .ok (.istore_n 1, 1) := by decide +kernel
theorem dX0_level_2 : decode cX0_level 2 = .ok (.iconst 0, 1) := by decide +kernel
theorem dX0_level_3 : decode cX0_level 3 = .ok (.istore_n 2, 1) := by decide +kernel
theorem dX0_level_4 : decode cX0_level 4 = .ok (.iload_n 2, 1) := by decide +kernel
theorem dX0_level_5 : decode cX0_level 5 = .ok (.sipush 200, 3) := by decide +kernel
theorem dX0_level_8 : decode cX0_level 8 = .ok (.if_icmp .ge 41, 3) := by decide +kernel
theorem dX0_level_11 : decode cX0_level 11 = .ok (.iload_n 1, 1) := by decide +kernel
theorem dX0_level_12 : decode cX0_level 12 = .ok (.aload_n 0, 1) := by decide +kernel
theorem dX0_level_13 : decode cX0_level 13 = .ok (.iload_n 2, 1) := by decide +kernel
theorem dX0_level_14 : decode cX0_level 14 = .ok (.aload_n 0, 1) := by decide +kernel
theorem dX0_level_15 : decode cX0_level 15 = .ok (.getfield 29, 3) := by decide +kernel
theorem dX0_level_18 : decode cX0_level 18 = .ok (.aload_n 0, 1) := by decide +kernel
theorem dX0_level_19 : decode cX0_level 19 = .ok (.getfield 29, 3) := by decide +kernel
theorem dX0_level_22 : decode cX0_level 22 = .ok (.invokevirtual 654, 3) := by decide +kernel
theorem dX0_level_25 : decode cX0_level 25 = .ok (.iload_n 2, 1) := by decide +kernel
theorem dX0_level_26 : decode cX0_level 26 = .ok (.invokevirtual 640, 3) := by decide +kernel
theorem dX0_level_29 : decode cX0_level 29 = .ok (.invokevirtual 935, 3) := by decide +kernel
theorem dX0_level_32 : decode cX0_level 32 = .ok (.iconst 1, 1) := by decide +kernel
theorem dX0_level_33 : decode cX0_level 33 = .ok (.if_icmp .ne 7, 3) := by decide +kernel
theorem dX0_level_36 : decode cX0_level 36 = .ok (.iconst 1, 1) := by decide +kernel
theorem dX0_level_37 : decode cX0_level 37 = .ok (.goto 4, 3) := by decide +kernel
theorem dX0_level_40 : decode cX0_level 40 = .ok (.iconst 0, 1) := by decide +kernel
theorem dX0_level_41 : decode cX0_level 41 = .ok (.iadd, 1) := by decide +kernel
theorem dX0_level_42 : decode cX0_level 42 = .ok (.istore_n 1, 1) := by decide +kernel
theorem dX0_level_43 : decode cX0_level 43 = .ok (.iinc 2 1, 3) := by decide +kernel
theorem dX0_level_46 : decode cX0_level 46 = .ok (.goto (-42), 3) := by decide +kernel
theorem dX0_level_49 : decode cX0_level 49 = .ok (.iload_n 1, 1) := by decide +kernel
theorem dX0_level_50 : decode cX0_level 50 = .ok (.ireturn, 1) := by decide +kernel
abbrev cX0_publish : ByteArray := prog_1_method_47_code
def yX0_publish : MethodName := ⟨RX0, "publish", "()I"⟩
theorem dX0_publish_0 : decode cX0_publish 0 = .ok (.aload_n 0, 1) := by decide +kernel
theorem dX0_publish_1 : decode cX0_publish 1 = .ok (.getfield 22, 3) := by decide +kernel
theorem dX0_publish_4 : decode cX0_publish 4 = .ok (.invokevirtual 610, 3) := by decide +kernel
theorem dX0_publish_7 : decode cX0_publish 7 = .ok (.istore_n 1, 1) := by decide +kernel
theorem dX0_publish_8 : decode cX0_publish 8 = .ok (.iload_n 1, 1) := by decide +kernel
theorem dX0_publish_9 : decode cX0_publish 9 = .ok (.ifCond .ge 5, 3) := by decide +kernel
theorem dX0_publish_12 : decode cX0_publish 12 = .ok (.iconst (-1), 1) := by decide +kernel
theorem dX0_publish_13 : decode cX0_publish 13 = .ok (.ireturn, 1) := by decide +kernel
theorem dX0_publish_14 : decode cX0_publish 14 = .ok (.iconst 0, 1) := by decide +kernel
theorem dX0_publish_15 : decode cX0_publish 15 = .ok (.istore_n 2, 1) := by decide +kernel
theorem dX0_publish_16 : decode cX0_publish 16 = .ok (.iload_n 2, 1) := by decide +kernel
theorem dX0_publish_17 : decode cX0_publish 17 = .ok (.iconst 4, 1) := by decide +kernel
theorem dX0_publish_18 : decode cX0_publish 18 = .ok (.if_icmp .ge 17, 3) := by decide +kernel
theorem dX0_publish_21 : decode cX0_publish 21 = .ok (.aload_n 0, 1) := by decide +kernel
theorem dX0_publish_22 : decode cX0_publish 22 = .ok (.getfield 22, 3) := by decide +kernel
theorem dX0_publish_25 : decode cX0_publish 25 = .ok (.invokevirtual 585, 3) := by decide +kernel
theorem dX0_publish_28 : decode cX0_publish 28 = .ok (.pop, 1) := by decide +kernel
theorem dX0_publish_29 : decode cX0_publish 29 = .ok (.iinc 2 1, 3) := by decide +kernel
theorem dX0_publish_32 : decode cX0_publish 32 = .ok (.goto (-16), 3) := by decide +kernel
theorem dX0_publish_35 : decode cX0_publish 35 = .ok (.iconst 0, 1) := by decide +kernel
theorem dX0_publish_36 : decode cX0_publish 36 = .ok (.istore_n 2, 1) := by decide +kernel
theorem dX0_publish_37 : decode cX0_publish 37 = .ok (.iload_n 2, 1) := by decide +kernel
theorem dX0_publish_38 : decode cX0_publish 38 = .ok (.sipush 200, 3) := by decide +kernel
theorem dX0_publish_41 : decode cX0_publish 41 = .ok (.if_icmp .ge 74, 3) := by decide +kernel
theorem dX0_publish_44 : decode cX0_publish 44 = .ok (.aload_n 0, 1) := by decide +kernel
theorem dX0_publish_45 : decode cX0_publish 45 = .ok (.getfield 29, 3) := by decide +kernel
theorem dX0_publish_48 : decode cX0_publish 48 = .ok (.aload_n 0, 1) := by decide +kernel
theorem dX0_publish_49 : decode cX0_publish 49 = .ok (.getfield 29, 3) := by decide +kernel
theorem dX0_publish_52 : decode cX0_publish 52 = .ok (.invokevirtual 654, 3) := by decide +kernel
theorem dX0_publish_55 : decode cX0_publish 55 = .ok (.iload_n 2, 1) := by decide +kernel
theorem dX0_publish_56 : decode cX0_publish 56 = .ok (.invokevirtual 640, 3) := by decide +kernel
theorem dX0_publish_59 : decode cX0_publish 59 = .ok (.ifCond .eq 50, 3) := by decide +kernel
theorem dX0_publish_62 : decode cX0_publish 62 = .ok (.aload_n 0, 1) := by decide +kernel
theorem dX0_publish_63 : decode cX0_publish 63 = .ok (.getfield 22, 3) := by decide +kernel
theorem dX0_publish_66 : decode cX0_publish 66 = .ok (.iload_n 2, 1) := by decide +kernel
theorem dX0_publish_67 : decode cX0_publish 67 = .ok (.invokestatic 925, 3) := by decide +kernel
theorem dX0_publish_70 : decode cX0_publish 70 = .ok (.bipush 6, 2) := by decide +kernel
theorem dX0_publish_72 : decode cX0_publish 72 = .ok (.if_icmp .ge 12, 3) := by decide +kernel
theorem dX0_publish_75 : decode cX0_publish 75 = .ok (.iload_n 2, 1) := by decide +kernel
theorem dX0_publish_76 : decode cX0_publish 76 = .ok (.invokestatic 925, 3) := by decide +kernel
theorem dX0_publish_79 : decode cX0_publish 79 = .ok (.iconst 1, 1) := by decide +kernel
theorem dX0_publish_80 : decode cX0_publish 80 = .ok (.iadd, 1) := by decide +kernel
theorem dX0_publish_81 : decode cX0_publish 81 = .ok (.goto 9, 3) := by decide +kernel
theorem dX0_publish_84 : decode cX0_publish 84 = .ok (.iconst 5, 1) := by decide +kernel
theorem dX0_publish_85 : decode cX0_publish 85 = .ok (.iload_n 2, 1) := by decide +kernel
theorem dX0_publish_86 : decode cX0_publish 86 = .ok (.invokestatic 925, 3) := by decide +kernel
theorem dX0_publish_89 : decode cX0_publish 89 = .ok (.isub, 1) := by decide +kernel
theorem dX0_publish_90 : decode cX0_publish 90 = .ok (.bipush 100, 2) := by decide +kernel
theorem dX0_publish_92 : decode cX0_publish 92 = .ok (.iload_n 2, 1) := by decide +kernel
theorem dX0_publish_93 : decode cX0_publish 93 = .ok (.invokestatic 927, 3) := by decide +kernel
theorem dX0_publish_96 : decode cX0_publish 96 = .ok (.iadd, 1) := by decide +kernel
theorem dX0_publish_97 : decode cX0_publish 97 = .ok (.sipush 200, 3) := by decide +kernel
theorem dX0_publish_100 : decode cX0_publish 100 = .ok (.iload_n 2, 1) := by decide +kernel
theorem dX0_publish_101 : decode cX0_publish 101 = .ok (.invokestatic 930, 3) := by decide +kernel
theorem dX0_publish_104 : decode cX0_publish 104 = .ok (.iadd, 1) := by decide +kernel
theorem dX0_publish_105 : decode cX0_publish 105 = .ok (.invokevirtual 591, 3) := by decide +kernel
theorem dX0_publish_108 : decode cX0_publish 108 = .ok (.pop, 1) := by decide +kernel
theorem dX0_publish_109 : decode cX0_publish 109 = .ok (.iinc 2 1, 3) := by decide +kernel
theorem dX0_publish_112 : decode cX0_publish 112 = .ok (.goto (-75), 3) := by decide +kernel
theorem dX0_publish_115 : decode cX0_publish 115 = .ok (.aload_n 0, 1) := by decide +kernel
theorem dX0_publish_116 : decode cX0_publish 116 = .ok (.iconst 1, 1) := by decide +kernel
theorem dX0_publish_117 : decode cX0_publish 117 = .ok (.iload_n 1, 1) := by decide +kernel
theorem dX0_publish_118 : decode cX0_publish 118 = .ok (.aload_n 0, 1) := by decide +kernel
theorem dX0_publish_119 : decode cX0_publish 119 = .ok (.getfield 22, 3) := by decide +kernel
theorem dX0_publish_122 : decode cX0_publish 122 = .ok (.ldc2_w 942, 3) := by decide +kernel
theorem dX0_publish_125 : decode cX0_publish 125 = .ok (.invokevirtual 596, 3) := by decide +kernel
theorem dX0_publish_128 : decode cX0_publish 128 = .ok (.invokevirtual 938, 3) := by decide +kernel
theorem dX0_publish_131 : decode cX0_publish 131 = .ok (.aload_n 0, 1) := by decide +kernel
theorem dX0_publish_132 : decode cX0_publish 132 = .ok (.getfield 22, 3) := by decide +kernel
theorem dX0_publish_135 : decode cX0_publish 135 = .ok (.iload_n 1, 1) := by decide +kernel
theorem dX0_publish_136 : decode cX0_publish 136 = .ok (.invokevirtual 612, 3) := by decide +kernel
theorem dX0_publish_139 : decode cX0_publish 139 = .ok (.ireturn, 1) := by decide +kernel
abbrev cX0_under : ByteArray := prog_1_method_48_code
def yX0_under : MethodName := ⟨RX0, "under", "(II)I"⟩
theorem dX0_under_0 : decode cX0_under 0 = .ok (.aload_n 0, 1) := by decide +kernel
theorem dX0_under_1 : decode cX0_under 1 = .ok (.getfield 57, 3) := by decide +kernel
theorem dX0_under_4 : decode cX0_under 4 = .ok (.iload_n 1, 1) := by decide +kernel
theorem dX0_under_5 : decode cX0_under 5 = .ok (.iconst (-1), 1) := by decide +kernel
theorem dX0_under_6 : decode cX0_under 6 = .ok (.iload_n 2, 1) := by decide +kernel
theorem dX0_under_7 : decode cX0_under 7 = .ok (.invokevirtual 753, 3) := by decide +kernel
theorem dX0_under_10 : decode cX0_under 10 = .ok (.istore_n 3, 1) := by decide +kernel
theorem dX0_under_11 : decode cX0_under 11 = .ok (.iload_n 3, 1) := by decide +kernel
theorem dX0_under_12 : decode cX0_under 12 = .ok (.ifCond .ge 5, 3) := by decide +kernel
theorem dX0_under_15 : decode cX0_under 15 = .ok (.iload_n 3, 1) := by decide +kernel
theorem dX0_under_16 : decode cX0_under 16 = .ok (.ireturn, 1) := by decide +kernel
theorem dX0_under_17 : decode cX0_under 17 = .ok (.aload_n 0, 1) := by decide +kernel
theorem dX0_under_18 : decode cX0_under 18 = .ok (.getfield 64, 3) := by decide +kernel
theorem dX0_under_21 : decode cX0_under 21 = .ok (.iload_n 1, 1) := by decide +kernel
theorem dX0_under_22 : decode cX0_under 22 = .ok (.iload_n 2, 1) := by decide +kernel
theorem dX0_under_23 : decode cX0_under 23 = .ok (.invokevirtual 783, 3) := by decide +kernel
theorem dX0_under_26 : decode cX0_under 26 = .ok (.pop, 1) := by decide +kernel
theorem dX0_under_27 : decode cX0_under 27 = .ok (.aload_n 0, 1) := by decide +kernel
theorem dX0_under_28 : decode cX0_under 28 = .ok (.getfield 85, 3) := by decide +kernel
theorem dX0_under_31 : decode cX0_under 31 = .ok (.iconst 0, 1) := by decide +kernel
theorem dX0_under_32 : decode cX0_under 32 = .ok (.iload_n 1, 1) := by decide +kernel
theorem dX0_under_33 : decode cX0_under 33 = .ok (.iload_n 2, 1) := by decide +kernel
theorem dX0_under_34 : decode cX0_under 34 = .ok (.invokevirtual 856, 3) := by decide +kernel
theorem dX0_under_37 : decode cX0_under 37 = .ok (.pop, 1) := by decide +kernel
theorem dX0_under_38 : decode cX0_under 38 = .ok (.aload_n 0, 1) := by decide +kernel
theorem dX0_under_39 : decode cX0_under 39 = .ok (.iconst 2, 1) := by decide +kernel
theorem dX0_under_40 : decode cX0_under 40 = .ok (.iload_n 1, 1) := by decide +kernel
theorem dX0_under_41 : decode cX0_under 41 = .ok (.iload_n 2, 1) := by decide +kernel
theorem dX0_under_42 : decode cX0_under 42 = .ok (.invokevirtual 938, 3) := by decide +kernel
theorem dX0_under_45 : decode cX0_under 45 = .ok (.iload_n 3, 1) := by decide +kernel
theorem dX0_under_46 : decode cX0_under 46 = .ok (.ireturn, 1) := by decide +kernel
abbrev cX0_is : ByteArray := prog_1_method_49_code
def yX0_is : MethodName := ⟨RX0, "is", "(II)I"⟩
theorem dX0_is_0 : decode cX0_is 0 = .ok (.aload_n 0, 1) := by decide +kernel
theorem dX0_is_1 : decode cX0_is 1 = .ok (.getfield 57, 3) := by decide +kernel
theorem dX0_is_4 : decode cX0_is 4 = .ok (.iload_n 1, 1) := by decide +kernel
theorem dX0_is_5 : decode cX0_is 5 = .ok (.iload_n 2, 1) := by decide +kernel
theorem dX0_is_6 : decode cX0_is 6 = .ok (.invokevirtual 773, 3) := by decide +kernel
theorem dX0_is_9 : decode cX0_is 9 = .ok (.istore_n 3, 1) := by decide +kernel
theorem dX0_is_10 : decode cX0_is 10 = .ok (.iload_n 3, 1) := by decide +kernel
theorem dX0_is_11 : decode cX0_is 11 = .ok (.ifCond .ge 5, 3) := by decide +kernel
theorem dX0_is_14 : decode cX0_is 14 = .ok (.iload_n 3, 1) := by decide +kernel
theorem dX0_is_15 : decode cX0_is 15 = .ok (.ireturn, 1) := by decide +kernel
theorem dX0_is_16 : decode cX0_is 16 = .ok (.aload_n 0, 1) := by decide +kernel
theorem dX0_is_17 : decode cX0_is 17 = .ok (.getfield 85, 3) := by decide +kernel
theorem dX0_is_20 : decode cX0_is 20 = .ok (.iconst 0, 1) := by decide +kernel
theorem dX0_is_21 : decode cX0_is 21 = .ok (.iload_n 2, 1) := by decide +kernel
theorem dX0_is_22 : decode cX0_is 22 = .ok (.iload_n 1, 1) := by decide +kernel
theorem dX0_is_23 : decode cX0_is 23 = .ok (.iconst 0, 1) := by decide +kernel
theorem dX0_is_24 : decode cX0_is 24 = .ok (.invokevirtual 857, 3) := by decide +kernel
theorem dX0_is_27 : decode cX0_is 27 = .ok (.pop, 1) := by decide +kernel
theorem dX0_is_28 : decode cX0_is 28 = .ok (.aload_n 0, 1) := by decide +kernel
theorem dX0_is_29 : decode cX0_is 29 = .ok (.getfield 64, 3) := by decide +kernel
theorem dX0_is_32 : decode cX0_is 32 = .ok (.iload_n 1, 1) := by decide +kernel
theorem dX0_is_33 : decode cX0_is 33 = .ok (.iconst 0, 1) := by decide +kernel
theorem dX0_is_34 : decode cX0_is 34 = .ok (.iload_n 2, 1) := by decide +kernel
theorem dX0_is_35 : decode cX0_is 35 = .ok (.invokevirtual 781, 3) := by decide +kernel
theorem dX0_is_38 : decode cX0_is 38 = .ok (.pop, 1) := by decide +kernel
theorem dX0_is_39 : decode cX0_is 39 = .ok (.iload_n 3, 1) := by decide +kernel
theorem dX0_is_40 : decode cX0_is 40 = .ok (.iconst 1, 1) := by decide +kernel
theorem dX0_is_41 : decode cX0_is 41 = .ok (.if_icmp .ne 10, 3) := by decide +kernel
theorem dX0_is_44 : decode cX0_is 44 = .ok (.aload_n 0, 1) := by decide +kernel
theorem dX0_is_45 : decode cX0_is 45 = .ok (.iconst 3, 1) := by decide +kernel
theorem dX0_is_46 : decode cX0_is 46 = .ok (.iload_n 1, 1) := by decide +kernel
theorem dX0_is_47 : decode cX0_is 47 = .ok (.iload_n 2, 1) := by decide +kernel
theorem dX0_is_48 : decode cX0_is 48 = .ok (.invokevirtual 938, 3) := by decide +kernel
theorem dX0_is_51 : decode cX0_is 51 = .ok (.iload_n 3, 1) := by decide +kernel
theorem dX0_is_52 : decode cX0_is 52 = .ok (.ireturn, 1) := by decide +kernel
abbrev cX0_order : ByteArray := prog_1_method_50_code
def yX0_order : MethodName := ⟨RX0, "order", "()I"⟩
theorem dX0_order_0 : decode cX0_order 0 = .ok (.aload_n 0, 1) := by decide +kernel
theorem dX0_order_1 : decode cX0_order 1 = .ok (.getfield 57, 3) := by decide +kernel
theorem dX0_order_4 : decode cX0_order 4 = .ok (.invokevirtual 761, 3) := by decide +kernel
theorem dX0_order_7 : decode cX0_order 7 = .ok (.pop, 1) := by decide +kernel
theorem dX0_order_8 : decode cX0_order 8 = .ok (.iconst 0, 1) := by decide +kernel
theorem dX0_order_9 : decode cX0_order 9 = .ok (.istore_n 1, 1) := by decide +kernel
theorem dX0_order_10 : decode cX0_order 10 = .ok (.iconst 0, 1) := by decide +kernel
theorem dX0_order_11 : decode cX0_order 11 = .ok (.istore_n 2, 1) := by decide +kernel
theorem dX0_order_12 : decode cX0_order 12 = .ok (.iload_n 2, 1) := by decide +kernel
theorem dX0_order_13 : decode cX0_order 13 = .ok (.aload_n 0, 1) := by decide +kernel
theorem dX0_order_14 : decode cX0_order 14 = .ok (.getfield 57, 3) := by decide +kernel
theorem dX0_order_17 : decode cX0_order 17 = .ok (.iconst 0, 1) := by decide +kernel
theorem dX0_order_18 : decode cX0_order 18 = .ok (.invokevirtual 779, 3) := by decide +kernel
theorem dX0_order_21 : decode cX0_order 21 = .ok (.if_icmp .ge 68, 3) := by decide +kernel
theorem dX0_order_24 : decode cX0_order 24 = .ok (.iconst 0, 1) := by decide +kernel
theorem dX0_order_25 : decode cX0_order 25 = .ok (.istore_n 3, 1) := by decide +kernel
theorem dX0_order_26 : decode cX0_order 26 = .ok (.aload_n 0, 1) := by decide +kernel
theorem dX0_order_27 : decode cX0_order 27 = .ok (.getfield 57, 3) := by decide +kernel
theorem dX0_order_30 : decode cX0_order 30 = .ok (.iload_n 2, 1) := by decide +kernel
theorem dX0_order_31 : decode cX0_order 31 = .ok (.iconst 0, 1) := by decide +kernel
theorem dX0_order_32 : decode cX0_order 32 = .ok (.invokevirtual 763, 3) := by decide +kernel
theorem dX0_order_35 : decode cX0_order 35 = .ok (.istore 4, 2) := by decide +kernel
theorem dX0_order_37 : decode cX0_order 37 = .ok (.iload 4, 2) := by decide +kernel
theorem dX0_order_39 : decode cX0_order 39 = .ok (.ifCond .lt 44, 3) := by decide +kernel
theorem dX0_order_42 : decode cX0_order 42 = .ok (.iload_n 1, 1) := by decide +kernel
theorem dX0_order_43 : decode cX0_order 43 = .ok (.aload_n 0, 1) := by decide +kernel
theorem dX0_order_44 : decode cX0_order 44 = .ok (.getfield 78, 3) := by decide +kernel
theorem dX0_order_47 : decode cX0_order 47 = .ok (.bipush 15, 2) := by decide +kernel
theorem dX0_order_49 : decode cX0_order 49 = .ok (.iload_n 2, 1) := by decide +kernel
theorem dX0_order_50 : decode cX0_order 50 = .ok (.iload 4, 2) := by decide +kernel
theorem dX0_order_52 : decode cX0_order 52 = .ok (.invokevirtual 828, 3) := by decide +kernel
theorem dX0_order_55 : decode cX0_order 55 = .ok (.iconst 1, 1) := by decide +kernel
theorem dX0_order_56 : decode cX0_order 56 = .ok (.if_icmp .ne 7, 3) := by decide +kernel
theorem dX0_order_59 : decode cX0_order 59 = .ok (.iconst 1, 1) := by decide +kernel
theorem dX0_order_60 : decode cX0_order 60 = .ok (.goto 4, 3) := by decide +kernel
theorem dX0_order_63 : decode cX0_order 63 = .ok (.iconst 0, 1) := by decide +kernel
theorem dX0_order_64 : decode cX0_order 64 = .ok (.iadd, 1) := by decide +kernel
theorem dX0_order_65 : decode cX0_order 65 = .ok (.istore_n 1, 1) := by decide +kernel
theorem dX0_order_66 : decode cX0_order 66 = .ok (.iinc 3 1, 3) := by decide +kernel
theorem dX0_order_69 : decode cX0_order 69 = .ok (.aload_n 0, 1) := by decide +kernel
theorem dX0_order_70 : decode cX0_order 70 = .ok (.getfield 57, 3) := by decide +kernel
theorem dX0_order_73 : decode cX0_order 73 = .ok (.iload_n 2, 1) := by decide +kernel
theorem dX0_order_74 : decode cX0_order 74 = .ok (.iload_n 3, 1) := by decide +kernel
theorem dX0_order_75 : decode cX0_order 75 = .ok (.invokevirtual 763, 3) := by decide +kernel
theorem dX0_order_78 : decode cX0_order 78 = .ok (.istore 4, 2) := by decide +kernel
theorem dX0_order_80 : decode cX0_order 80 = .ok (.goto (-43), 3) := by decide +kernel
theorem dX0_order_83 : decode cX0_order 83 = .ok (.iinc 2 1, 3) := by decide +kernel
theorem dX0_order_86 : decode cX0_order 86 = .ok (.goto (-74), 3) := by decide +kernel
theorem dX0_order_89 : decode cX0_order 89 = .ok (.iload_n 1, 1) := by decide +kernel
theorem dX0_order_90 : decode cX0_order 90 = .ok (.ireturn, 1) := by decide +kernel
abbrev cX0_take : ByteArray := prog_1_method_51_code
def yX0_take : MethodName := ⟨RX0, "take", "(III)I"⟩
theorem dX0_take_0 : decode cX0_take 0 = .ok (.iload_n 1, 1) := by decide +kernel
theorem dX0_take_1 : decode cX0_take 1 = .ok (.ifCond .lt 19, 3) := by decide +kernel
theorem dX0_take_4 : decode cX0_take 4 = .ok (.iload_n 1, 1) := by decide +kernel
theorem dX0_take_5 : decode cX0_take 5 = .ok (.bipush 6, 2) := by decide +kernel
theorem dX0_take_7 : decode cX0_take 7 = .ok (.if_icmp .ge 13, 3) := by decide +kernel
theorem dX0_take_10 : decode cX0_take 10 = .ok (.iload_n 2, 1) := by decide +kernel
theorem dX0_take_11 : decode cX0_take 11 = .ok (.ifCond .lt 9, 3) := by decide +kernel
theorem dX0_take_14 : decode cX0_take 14 = .ok (.iload_n 2, 1) := by decide +kernel
theorem dX0_take_15 : decode cX0_take 15 = .ok (.bipush 6, 2) := by decide +kernel
theorem dX0_take_17 : decode cX0_take 17 = .ok (.if_icmp .lt 6, 3) := by decide +kernel
theorem dX0_take_20 : decode cX0_take 20 = .ok (.bipush (-2), 2) := by decide +kernel
theorem dX0_take_22 : decode cX0_take 22 = .ok (.ireturn, 1) := by decide +kernel
theorem dX0_take_23 : decode cX0_take 23 = .ok (.aload_n 0, 1) := by decide +kernel
theorem dX0_take_24 : decode cX0_take 24 = .ok (.getfield 71, 3) := by decide +kernel
theorem dX0_take_27 : decode cX0_take 27 = .ok (.invokevirtual 823, 3) := by decide +kernel
theorem dX0_take_30 : decode cX0_take 30 = .ok (.istore 4, 2) := by decide +kernel
theorem dX0_take_32 : decode cX0_take 32 = .ok (.iconst 0, 1) := by decide +kernel
theorem dX0_take_33 : decode cX0_take 33 = .ok (.istore 5, 2) := by decide +kernel
theorem dX0_take_35 : decode cX0_take 35 = .ok (.iconst 0, 1) := by decide +kernel
theorem dX0_take_36 : decode cX0_take 36 = .ok (.istore 6, 2) := by decide +kernel
theorem dX0_take_38 : decode cX0_take 38 = .ok (.iload 6, 2) := by decide +kernel
theorem dX0_take_40 : decode cX0_take 40 = .ok (.iload 4, 2) := by decide +kernel
theorem dX0_take_42 : decode cX0_take 42 = .ok (.if_icmp .ge 58, 3) := by decide +kernel
theorem dX0_take_45 : decode cX0_take 45 = .ok (.iload 5, 2) := by decide +kernel
theorem dX0_take_47 : decode cX0_take 47 = .ok (.aload_n 0, 1) := by decide +kernel
theorem dX0_take_48 : decode cX0_take 48 = .ok (.getfield 85, 3) := by decide +kernel
theorem dX0_take_51 : decode cX0_take 51 = .ok (.iconst 1, 1) := by decide +kernel
theorem dX0_take_52 : decode cX0_take 52 = .ok (.iload_n 3, 1) := by decide +kernel
theorem dX0_take_53 : decode cX0_take 53 = .ok (.aload_n 0, 1) := by decide +kernel
theorem dX0_take_54 : decode cX0_take 54 = .ok (.getfield 71, 3) := by decide +kernel
theorem dX0_take_57 : decode cX0_take 57 = .ok (.iload 6, 2) := by decide +kernel
theorem dX0_take_59 : decode cX0_take 59 = .ok (.iload_n 1, 1) := by decide +kernel
theorem dX0_take_60 : decode cX0_take 60 = .ok (.invokevirtual 824, 3) := by decide +kernel
theorem dX0_take_63 : decode cX0_take 63 = .ok (.bipush 12, 2) := by decide +kernel
theorem dX0_take_65 : decode cX0_take 65 = .ok (.irem, 1) := by decide +kernel
theorem dX0_take_66 : decode cX0_take 66 = .ok (.aload_n 0, 1) := by decide +kernel
theorem dX0_take_67 : decode cX0_take 67 = .ok (.getfield 71, 3) := by decide +kernel
theorem dX0_take_70 : decode cX0_take 70 = .ok (.iload 6, 2) := by decide +kernel
theorem dX0_take_72 : decode cX0_take 72 = .ok (.iload_n 2, 1) := by decide +kernel
theorem dX0_take_73 : decode cX0_take 73 = .ok (.invokevirtual 824, 3) := by decide +kernel
theorem dX0_take_76 : decode cX0_take 76 = .ok (.bipush 12, 2) := by decide +kernel
theorem dX0_take_78 : decode cX0_take 78 = .ok (.irem, 1) := by decide +kernel
theorem dX0_take_79 : decode cX0_take 79 = .ok (.invokevirtual 857, 3) := by decide +kernel
theorem dX0_take_82 : decode cX0_take 82 = .ok (.iconst 1, 1) := by decide +kernel
theorem dX0_take_83 : decode cX0_take 83 = .ok (.if_icmp .ne 7, 3) := by decide +kernel
theorem dX0_take_86 : decode cX0_take 86 = .ok (.iconst 1, 1) := by decide +kernel
theorem dX0_take_87 : decode cX0_take 87 = .ok (.goto 4, 3) := by decide +kernel
theorem dX0_take_90 : decode cX0_take 90 = .ok (.iconst 0, 1) := by decide +kernel
theorem dX0_take_91 : decode cX0_take 91 = .ok (.iadd, 1) := by decide +kernel
theorem dX0_take_92 : decode cX0_take 92 = .ok (.istore 5, 2) := by decide +kernel
theorem dX0_take_94 : decode cX0_take 94 = .ok (.iinc 6 1, 3) := by decide +kernel
theorem dX0_take_97 : decode cX0_take 97 = .ok (.goto (-59), 3) := by decide +kernel
theorem dX0_take_100 : decode cX0_take 100 = .ok (.iload 4, 2) := by decide +kernel
theorem dX0_take_102 : decode cX0_take 102 = .ok (.ifCond .ge 8, 3) := by decide +kernel
theorem dX0_take_105 : decode cX0_take 105 = .ok (.iload 4, 2) := by decide +kernel
theorem dX0_take_107 : decode cX0_take 107 = .ok (.goto 5, 3) := by decide +kernel
theorem dX0_take_110 : decode cX0_take 110 = .ok (.iload 5, 2) := by decide +kernel
theorem dX0_take_112 : decode cX0_take 112 = .ok (.ireturn, 1) := by decide +kernel
abbrev cX0_store : ByteArray := prog_1_method_52_code
def yX0_store : MethodName := ⟨RX0, "store", "(I)I"⟩
theorem dX0_store_0 : decode cX0_store 0 = .ok (.aload_n 0, 1) := by decide +kernel
theorem dX0_store_1 : decode cX0_store 1 = .ok (.getfield 94, 3) := by decide +kernel
theorem dX0_store_4 : decode cX0_store 4 = .ok (.iconst 1, 1) := by decide +kernel
theorem dX0_store_5 : decode cX0_store 5 = .ok (.iconst (-1), 1) := by decide +kernel
theorem dX0_store_6 : decode cX0_store 6 = .ok (.ldc2_w 944, 3) := by decide +kernel
theorem dX0_store_9 : decode cX0_store 9 = .ok (.aload_n 0, 1) := by decide +kernel
theorem dX0_store_10 : decode cX0_store 10 = .ok (.getfield 29, 3) := by decide +kernel
theorem dX0_store_13 : decode cX0_store 13 = .ok (.invokevirtual 654, 3) := by decide +kernel
theorem dX0_store_16 : decode cX0_store 16 = .ok (.i2l, 1) := by decide +kernel
theorem dX0_store_17 : decode cX0_store 17 = .ok (.lmul, 1) := by decide +kernel
theorem dX0_store_18 : decode cX0_store 18 = .ok (.ldc2_w 946, 3) := by decide +kernel
theorem dX0_store_21 : decode cX0_store 21 = .ok (.aload_n 0, 1) := by decide +kernel
theorem dX0_store_22 : decode cX0_store 22 = .ok (.getfield 64, 3) := by decide +kernel
theorem dX0_store_25 : decode cX0_store 25 = .ok (.invokevirtual 787, 3) := by decide +kernel
theorem dX0_store_28 : decode cX0_store 28 = .ok (.i2l, 1) := by decide +kernel
theorem dX0_store_29 : decode cX0_store 29 = .ok (.lmul, 1) := by decide +kernel
theorem dX0_store_30 : decode cX0_store 30 = .ok (.ladd, 1) := by decide +kernel
theorem dX0_store_31 : decode cX0_store 31 = .ok (.aload_n 0, 1) := by decide +kernel
theorem dX0_store_32 : decode cX0_store 32 = .ok (.getfield 22, 3) := by decide +kernel
theorem dX0_store_35 : decode cX0_store 35 = .ok (.invokevirtual 618, 3) := by decide +kernel
theorem dX0_store_38 : decode cX0_store 38 = .ok (.i2l, 1) := by decide +kernel
theorem dX0_store_39 : decode cX0_store 39 = .ok (.ladd, 1) := by decide +kernel
theorem dX0_store_40 : decode cX0_store 40 = .ok (.invokevirtual 880, 3) := by decide +kernel
theorem dX0_store_43 : decode cX0_store 43 = .ok (.istore_n 2, 1) := by decide +kernel
theorem dX0_store_44 : decode cX0_store 44 = .ok (.iload_n 2, 1) := by decide +kernel
theorem dX0_store_45 : decode cX0_store 45 = .ok (.ifCond .ge 5, 3) := by decide +kernel
theorem dX0_store_48 : decode cX0_store 48 = .ok (.iload_n 2, 1) := by decide +kernel
theorem dX0_store_49 : decode cX0_store 49 = .ok (.ireturn, 1) := by decide +kernel
theorem dX0_store_50 : decode cX0_store 50 = .ok (.aload_n 0, 1) := by decide +kernel
theorem dX0_store_51 : decode cX0_store 51 = .ok (.getfield 94, 3) := by decide +kernel
theorem dX0_store_54 : decode cX0_store 54 = .ok (.iload_n 1, 1) := by decide +kernel
theorem dX0_store_55 : decode cX0_store 55 = .ok (.invokevirtual 883, 3) := by decide +kernel
theorem dX0_store_58 : decode cX0_store 58 = .ok (.istore_n 3, 1) := by decide +kernel
theorem dX0_store_59 : decode cX0_store 59 = .ok (.iload_n 3, 1) := by decide +kernel
theorem dX0_store_60 : decode cX0_store 60 = .ok (.ifCond .ge 5, 3) := by decide +kernel
theorem dX0_store_63 : decode cX0_store 63 = .ok (.iload_n 3, 1) := by decide +kernel
theorem dX0_store_64 : decode cX0_store 64 = .ok (.ireturn, 1) := by decide +kernel
theorem dX0_store_65 : decode cX0_store 65 = .ok (.aload_n 0, 1) := by decide +kernel
theorem dX0_store_66 : decode cX0_store 66 = .ok (.getfield 94, 3) := by decide +kernel
theorem dX0_store_69 : decode cX0_store 69 = .ok (.invokevirtual 884, 3) := by decide +kernel
theorem dX0_store_72 : decode cX0_store 72 = .ok (.pop, 1) := by decide +kernel
theorem dX0_store_73 : decode cX0_store 73 = .ok (.aload_n 0, 1) := by decide +kernel
theorem dX0_store_74 : decode cX0_store 74 = .ok (.iconst 4, 1) := by decide +kernel
theorem dX0_store_75 : decode cX0_store 75 = .ok (.iload_n 2, 1) := by decide +kernel
theorem dX0_store_76 : decode cX0_store 76 = .ok (.iload_n 1, 1) := by decide +kernel
theorem dX0_store_77 : decode cX0_store 77 = .ok (.invokevirtual 938, 3) := by decide +kernel
theorem dX0_store_80 : decode cX0_store 80 = .ok (.iload_n 2, 1) := by decide +kernel
theorem dX0_store_81 : decode cX0_store 81 = .ok (.ireturn, 1) := by decide +kernel
abbrev cX0_audit : ByteArray := prog_1_method_59_code
def yX0_audit : MethodName := ⟨RX0, "audit", "()I"⟩
theorem dX0_audit_0 : decode cX0_audit 0 = .ok (.iconst 0, 1) := by decide +kernel
theorem dX0_audit_1 : decode cX0_audit 1 = .ok (.istore_n 1, 1) := by decide +kernel
theorem dX0_audit_2 : decode cX0_audit 2 = .ok (.iconst 0, 1) := by decide +kernel
theorem dX0_audit_3 : decode cX0_audit 3 = .ok (.istore_n 2, 1) := by decide +kernel
theorem dX0_audit_4 : decode cX0_audit 4 = .ok (.iload_n 2, 1) := by decide +kernel
theorem dX0_audit_5 : decode cX0_audit 5 = .ok (.sipush 200, 3) := by decide +kernel
theorem dX0_audit_8 : decode cX0_audit 8 = .ok (.if_icmp .ge 63, 3) := by decide +kernel
theorem dX0_audit_11 : decode cX0_audit 11 = .ok (.iload_n 1, 1) := by decide +kernel
theorem dX0_audit_12 : decode cX0_audit 12 = .ok (.aload_n 0, 1) := by decide +kernel
theorem dX0_audit_13 : decode cX0_audit 13 = .ok (.getfield 29, 3) := by decide +kernel
theorem dX0_audit_16 : decode cX0_audit 16 = .ok (.aload_n 0, 1) := by decide +kernel
theorem dX0_audit_17 : decode cX0_audit 17 = .ok (.getfield 29, 3) := by decide +kernel
theorem dX0_audit_20 : decode cX0_audit 20 = .ok (.invokevirtual 654, 3) := by decide +kernel
theorem dX0_audit_23 : decode cX0_audit 23 = .ok (.iload_n 2, 1) := by decide +kernel
theorem dX0_audit_24 : decode cX0_audit 24 = .ok (.invokevirtual 640, 3) := by decide +kernel
theorem dX0_audit_27 : decode cX0_audit 27 = .ok (.aload_n 0, 1) := by decide +kernel
theorem dX0_audit_28 : decode cX0_audit 28 = .ok (.getfield 78, 3) := by decide +kernel
theorem dX0_audit_31 : decode cX0_audit 31 = .ok (.iload_n 2, 1) := by decide +kernel
theorem dX0_audit_32 : decode cX0_audit 32 = .ok (.invokestatic 927, 3) := by decide +kernel
theorem dX0_audit_35 : decode cX0_audit 35 = .ok (.iload_n 2, 1) := by decide +kernel
theorem dX0_audit_36 : decode cX0_audit 36 = .ok (.invokestatic 925, 3) := by decide +kernel
theorem dX0_audit_39 : decode cX0_audit 39 = .ok (.iload_n 2, 1) := by decide +kernel
theorem dX0_audit_40 : decode cX0_audit 40 = .ok (.invokestatic 930, 3) := by decide +kernel
theorem dX0_audit_43 : decode cX0_audit 43 = .ok (.invokevirtual 847, 3) := by decide +kernel
theorem dX0_audit_46 : decode cX0_audit 46 = .ok (.iconst 1, 1) := by decide +kernel
theorem dX0_audit_47 : decode cX0_audit 47 = .ok (.if_icmp .ne 7, 3) := by decide +kernel
theorem dX0_audit_50 : decode cX0_audit 50 = .ok (.iconst 1, 1) := by decide +kernel
theorem dX0_audit_51 : decode cX0_audit 51 = .ok (.goto 4, 3) := by decide +kernel
theorem dX0_audit_54 : decode cX0_audit 54 = .ok (.iconst 0, 1) := by decide +kernel
theorem dX0_audit_55 : decode cX0_audit 55 = .ok (.if_icmp .ne 7, 3) := by decide +kernel
theorem dX0_audit_58 : decode cX0_audit 58 = .ok (.iconst 0, 1) := by decide +kernel
theorem dX0_audit_59 : decode cX0_audit 59 = .ok (.goto 4, 3) := by decide +kernel
theorem dX0_audit_62 : decode cX0_audit 62 = .ok (.iconst 1, 1) := by decide +kernel
theorem dX0_audit_63 : decode cX0_audit 63 = .ok (.iadd, 1) := by decide +kernel
theorem dX0_audit_64 : decode cX0_audit 64 = .ok (.istore_n 1, 1) := by decide +kernel
theorem dX0_audit_65 : decode cX0_audit 65 = .ok (.iinc 2 1, 3) := by decide +kernel
theorem dX0_audit_68 : decode cX0_audit 68 = .ok (.goto (-64), 3) := by decide +kernel
theorem dX0_audit_71 : decode cX0_audit 71 = .ok (.iload_n 1, 1) := by decide +kernel
theorem dX0_audit_72 : decode cX0_audit 72 = .ok (.ireturn, 1) := by decide +kernel
abbrev cX0_entry : ByteArray := prog_1_method_53_code
def yX0_entry : MethodName := ⟨RX0, "entry", "(II)I"⟩
theorem dX0_entry_0 : decode cX0_entry 0 = .ok (.iload_n 1, 1) := by decide +kernel
theorem dX0_entry_1 : decode cX0_entry 1 = .ok (.ifCond .lt 31, 3) := by decide +kernel
theorem dX0_entry_4 : decode cX0_entry 4 = .ok (.iload_n 1, 1) := by decide +kernel
theorem dX0_entry_5 : decode cX0_entry 5 = .ok (.sipush 400, 3) := by decide +kernel
theorem dX0_entry_8 : decode cX0_entry 8 = .ok (.if_icmp .ge 24, 3) := by decide +kernel
theorem dX0_entry_11 : decode cX0_entry 11 = .ok (.iload_n 1, 1) := by decide +kernel
theorem dX0_entry_12 : decode cX0_entry 12 = .ok (.aload_n 0, 1) := by decide +kernel
theorem dX0_entry_13 : decode cX0_entry 13 = .ok (.getfield 922, 3) := by decide +kernel
theorem dX0_entry_16 : decode cX0_entry 16 = .ok (.if_icmp .ge 16, 3) := by decide +kernel
theorem dX0_entry_19 : decode cX0_entry 19 = .ok (.iload_n 2, 1) := by decide +kernel
theorem dX0_entry_20 : decode cX0_entry 20 = .ok (.ifCond .lt 12, 3) := by decide +kernel
theorem dX0_entry_23 : decode cX0_entry 23 = .ok (.iload_n 2, 1) := by decide +kernel
theorem dX0_entry_24 : decode cX0_entry 24 = .ok (.iconst 3, 1) := by decide +kernel
theorem dX0_entry_25 : decode cX0_entry 25 = .ok (.if_icmp .ge 7, 3) := by decide +kernel
theorem dX0_entry_28 : decode cX0_entry 28 = .ok (.iconst 1, 1) := by decide +kernel
theorem dX0_entry_29 : decode cX0_entry 29 = .ok (.goto 4, 3) := by decide +kernel
theorem dX0_entry_32 : decode cX0_entry 32 = .ok (.iconst 0, 1) := by decide +kernel
theorem dX0_entry_33 : decode cX0_entry 33 = .ok (.istore_n 3, 1) := by decide +kernel
theorem dX0_entry_34 : decode cX0_entry 34 = .ok (.iload_n 3, 1) := by decide +kernel
theorem dX0_entry_35 : decode cX0_entry 35 = .ok (.ifCond .eq 16, 3) := by decide +kernel
theorem dX0_entry_38 : decode cX0_entry 38 = .ok (.aload_n 0, 1) := by decide +kernel
theorem dX0_entry_39 : decode cX0_entry 39 = .ok (.getfield 124, 3) := by decide +kernel
theorem dX0_entry_42 : decode cX0_entry 42 = .ok (.iconst 3, 1) := by decide +kernel
theorem dX0_entry_43 : decode cX0_entry 43 = .ok (.iload_n 1, 1) := by decide +kernel
theorem dX0_entry_44 : decode cX0_entry 44 = .ok (.imul, 1) := by decide +kernel
theorem dX0_entry_45 : decode cX0_entry 45 = .ok (.iload_n 2, 1) := by decide +kernel
theorem dX0_entry_46 : decode cX0_entry 46 = .ok (.iadd, 1) := by decide +kernel
theorem dX0_entry_47 : decode cX0_entry 47 = .ok (.iaload, 1) := by decide +kernel
theorem dX0_entry_48 : decode cX0_entry 48 = .ok (.goto 4, 3) := by decide +kernel
theorem dX0_entry_51 : decode cX0_entry 51 = .ok (.iconst (-1), 1) := by decide +kernel
theorem dX0_entry_52 : decode cX0_entry 52 = .ok (.ireturn, 1) := by decide +kernel
abbrev cX0_namesCall : ByteArray := prog_1_method_27_code
def yX0_namesCall : MethodName := ⟨RX0, "namesCall", "(I)J"⟩
theorem dX0_namesCall_0 : decode cX0_namesCall 0 = .ok (.iload_n 1, 1) := by decide +kernel
theorem dX0_namesCall_1 : decode cX0_namesCall 1 = .ok (.tableswitch 296 0 14 #[75, 84, 108, 132, 147, 161, 180, 199, 208, 227, 236, 250, 264, 278, 287], 75) := by decide +kernel
theorem dX0_namesCall_76 : decode cX0_namesCall 76 = .ok (.aload_n 0, 1) := by decide +kernel
theorem dX0_namesCall_77 : decode cX0_namesCall 77 = .ok (.getfield 22, 3) := by decide +kernel
theorem dX0_namesCall_80 : decode cX0_namesCall 80 = .ok (.invokevirtual 585, 3) := by decide +kernel
theorem dX0_namesCall_83 : decode cX0_namesCall 83 = .ok (.i2l, 1) := by decide +kernel
theorem dX0_namesCall_84 : decode cX0_namesCall 84 = .ok (.lreturn, 1) := by decide +kernel
theorem dX0_namesCall_85 : decode cX0_namesCall 85 = .ok (.aload_n 0, 1) := by decide +kernel
theorem dX0_namesCall_86 : decode cX0_namesCall 86 = .ok (.getfield 22, 3) := by decide +kernel
theorem dX0_namesCall_89 : decode cX0_namesCall 89 = .ok (.aload_n 0, 1) := by decide +kernel
theorem dX0_namesCall_90 : decode cX0_namesCall 90 = .ok (.iconst 0, 1) := by decide +kernel
theorem dX0_namesCall_91 : decode cX0_namesCall 91 = .ok (.invokevirtual 587, 3) := by decide +kernel
theorem dX0_namesCall_94 : decode cX0_namesCall 94 = .ok (.aload_n 0, 1) := by decide +kernel
theorem dX0_namesCall_95 : decode cX0_namesCall 95 = .ok (.iconst 1, 1) := by decide +kernel
theorem dX0_namesCall_96 : decode cX0_namesCall 96 = .ok (.invokevirtual 587, 3) := by decide +kernel
theorem dX0_namesCall_99 : decode cX0_namesCall 99 = .ok (.aload_n 0, 1) := by decide +kernel
theorem dX0_namesCall_100 : decode cX0_namesCall 100 = .ok (.iconst 2, 1) := by decide +kernel
theorem dX0_namesCall_101 : decode cX0_namesCall 101 = .ok (.invokevirtual 587, 3) := by decide +kernel
theorem dX0_namesCall_104 : decode cX0_namesCall 104 = .ok (.invokevirtual 591, 3) := by decide +kernel
theorem dX0_namesCall_107 : decode cX0_namesCall 107 = .ok (.i2l, 1) := by decide +kernel
theorem dX0_namesCall_108 : decode cX0_namesCall 108 = .ok (.lreturn, 1) := by decide +kernel
theorem dX0_namesCall_109 : decode cX0_namesCall 109 = .ok (.aload_n 0, 1) := by decide +kernel
theorem dX0_namesCall_110 : decode cX0_namesCall 110 = .ok (.getfield 22, 3) := by decide +kernel
theorem dX0_namesCall_113 : decode cX0_namesCall 113 = .ok (.aload_n 0, 1) := by decide +kernel
theorem dX0_namesCall_114 : decode cX0_namesCall 114 = .ok (.iconst 0, 1) := by decide +kernel
theorem dX0_namesCall_115 : decode cX0_namesCall 115 = .ok (.invokevirtual 587, 3) := by decide +kernel
theorem dX0_namesCall_118 : decode cX0_namesCall 118 = .ok (.aload_n 0, 1) := by decide +kernel
theorem dX0_namesCall_119 : decode cX0_namesCall 119 = .ok (.iconst 1, 1) := by decide +kernel
theorem dX0_namesCall_120 : decode cX0_namesCall 120 = .ok (.invokevirtual 587, 3) := by decide +kernel
theorem dX0_namesCall_123 : decode cX0_namesCall 123 = .ok (.aload_n 0, 1) := by decide +kernel
theorem dX0_namesCall_124 : decode cX0_namesCall 124 = .ok (.iconst 2, 1) := by decide +kernel
theorem dX0_namesCall_125 : decode cX0_namesCall 125 = .ok (.invokevirtual 587, 3) := by decide +kernel
theorem dX0_namesCall_128 : decode cX0_namesCall 128 = .ok (.invokevirtual 594, 3) := by decide +kernel
theorem dX0_namesCall_131 : decode cX0_namesCall 131 = .ok (.i2l, 1) := by decide +kernel
theorem dX0_namesCall_132 : decode cX0_namesCall 132 = .ok (.lreturn, 1) := by decide +kernel
theorem dX0_namesCall_133 : decode cX0_namesCall 133 = .ok (.aload_n 0, 1) := by decide +kernel
theorem dX0_namesCall_134 : decode cX0_namesCall 134 = .ok (.getfield 22, 3) := by decide +kernel
theorem dX0_namesCall_137 : decode cX0_namesCall 137 = .ok (.aload_n 0, 1) := by decide +kernel
theorem dX0_namesCall_138 : decode cX0_namesCall 138 = .ok (.getfield 109, 3) := by decide +kernel
theorem dX0_namesCall_141 : decode cX0_namesCall 141 = .ok (.iconst 0, 1) := by decide +kernel
theorem dX0_namesCall_142 : decode cX0_namesCall 142 = .ok (.laload, 1) := by decide +kernel
theorem dX0_namesCall_143 : decode cX0_namesCall 143 = .ok (.invokevirtual 596, 3) := by decide +kernel
theorem dX0_namesCall_146 : decode cX0_namesCall 146 = .ok (.i2l, 1) := by decide +kernel
theorem dX0_namesCall_147 : decode cX0_namesCall 147 = .ok (.lreturn, 1) := by decide +kernel
theorem dX0_namesCall_148 : decode cX0_namesCall 148 = .ok (.aload_n 0, 1) := by decide +kernel
theorem dX0_namesCall_149 : decode cX0_namesCall 149 = .ok (.getfield 22, 3) := by decide +kernel
theorem dX0_namesCall_152 : decode cX0_namesCall 152 = .ok (.aload_n 0, 1) := by decide +kernel
theorem dX0_namesCall_153 : decode cX0_namesCall 153 = .ok (.iconst 0, 1) := by decide +kernel
theorem dX0_namesCall_154 : decode cX0_namesCall 154 = .ok (.invokevirtual 587, 3) := by decide +kernel
theorem dX0_namesCall_157 : decode cX0_namesCall 157 = .ok (.invokevirtual 599, 3) := by decide +kernel
theorem dX0_namesCall_160 : decode cX0_namesCall 160 = .ok (.i2l, 1) := by decide +kernel
theorem dX0_namesCall_161 : decode cX0_namesCall 161 = .ok (.lreturn, 1) := by decide +kernel
theorem dX0_namesCall_162 : decode cX0_namesCall 162 = .ok (.aload_n 0, 1) := by decide +kernel
theorem dX0_namesCall_163 : decode cX0_namesCall 163 = .ok (.getfield 22, 3) := by decide +kernel
theorem dX0_namesCall_166 : decode cX0_namesCall 166 = .ok (.aload_n 0, 1) := by decide +kernel
theorem dX0_namesCall_167 : decode cX0_namesCall 167 = .ok (.iconst 0, 1) := by decide +kernel
theorem dX0_namesCall_168 : decode cX0_namesCall 168 = .ok (.invokevirtual 587, 3) := by decide +kernel
theorem dX0_namesCall_171 : decode cX0_namesCall 171 = .ok (.aload_n 0, 1) := by decide +kernel
theorem dX0_namesCall_172 : decode cX0_namesCall 172 = .ok (.iconst 1, 1) := by decide +kernel
theorem dX0_namesCall_173 : decode cX0_namesCall 173 = .ok (.invokevirtual 587, 3) := by decide +kernel
theorem dX0_namesCall_176 : decode cX0_namesCall 176 = .ok (.invokevirtual 601, 3) := by decide +kernel
theorem dX0_namesCall_179 : decode cX0_namesCall 179 = .ok (.i2l, 1) := by decide +kernel
theorem dX0_namesCall_180 : decode cX0_namesCall 180 = .ok (.lreturn, 1) := by decide +kernel
theorem dX0_namesCall_181 : decode cX0_namesCall 181 = .ok (.aload_n 0, 1) := by decide +kernel
theorem dX0_namesCall_182 : decode cX0_namesCall 182 = .ok (.getfield 22, 3) := by decide +kernel
theorem dX0_namesCall_185 : decode cX0_namesCall 185 = .ok (.aload_n 0, 1) := by decide +kernel
theorem dX0_namesCall_186 : decode cX0_namesCall 186 = .ok (.iconst 0, 1) := by decide +kernel
theorem dX0_namesCall_187 : decode cX0_namesCall 187 = .ok (.invokevirtual 587, 3) := by decide +kernel
theorem dX0_namesCall_190 : decode cX0_namesCall 190 = .ok (.aload_n 0, 1) := by decide +kernel
theorem dX0_namesCall_191 : decode cX0_namesCall 191 = .ok (.iconst 1, 1) := by decide +kernel
theorem dX0_namesCall_192 : decode cX0_namesCall 192 = .ok (.invokevirtual 587, 3) := by decide +kernel
theorem dX0_namesCall_195 : decode cX0_namesCall 195 = .ok (.invokevirtual 604, 3) := by decide +kernel
theorem dX0_namesCall_198 : decode cX0_namesCall 198 = .ok (.i2l, 1) := by decide +kernel
theorem dX0_namesCall_199 : decode cX0_namesCall 199 = .ok (.lreturn, 1) := by decide +kernel
theorem dX0_namesCall_200 : decode cX0_namesCall 200 = .ok (.aload_n 0, 1) := by decide +kernel
theorem dX0_namesCall_201 : decode cX0_namesCall 201 = .ok (.getfield 22, 3) := by decide +kernel
theorem dX0_namesCall_204 : decode cX0_namesCall 204 = .ok (.invokevirtual 606, 3) := by decide +kernel
theorem dX0_namesCall_207 : decode cX0_namesCall 207 = .ok (.i2l, 1) := by decide +kernel
theorem dX0_namesCall_208 : decode cX0_namesCall 208 = .ok (.lreturn, 1) := by decide +kernel
theorem dX0_namesCall_209 : decode cX0_namesCall 209 = .ok (.aload_n 0, 1) := by decide +kernel
theorem dX0_namesCall_210 : decode cX0_namesCall 210 = .ok (.getfield 22, 3) := by decide +kernel
theorem dX0_namesCall_213 : decode cX0_namesCall 213 = .ok (.aload_n 0, 1) := by decide +kernel
theorem dX0_namesCall_214 : decode cX0_namesCall 214 = .ok (.iconst 0, 1) := by decide +kernel
theorem dX0_namesCall_215 : decode cX0_namesCall 215 = .ok (.invokevirtual 587, 3) := by decide +kernel
theorem dX0_namesCall_218 : decode cX0_namesCall 218 = .ok (.aload_n 0, 1) := by decide +kernel
theorem dX0_namesCall_219 : decode cX0_namesCall 219 = .ok (.iconst 1, 1) := by decide +kernel
theorem dX0_namesCall_220 : decode cX0_namesCall 220 = .ok (.invokevirtual 587, 3) := by decide +kernel
theorem dX0_namesCall_223 : decode cX0_namesCall 223 = .ok (.invokevirtual 608, 3) := by decide +kernel
theorem dX0_namesCall_226 : decode cX0_namesCall 226 = .ok (.i2l, 1) := by decide +kernel
theorem dX0_namesCall_227 : decode cX0_namesCall 227 = .ok (.lreturn, 1) := by decide +kernel
theorem dX0_namesCall_228 : decode cX0_namesCall 228 = .ok (.aload_n 0, 1) := by decide +kernel
theorem dX0_namesCall_229 : decode cX0_namesCall 229 = .ok (.getfield 22, 3) := by decide +kernel
theorem dX0_namesCall_232 : decode cX0_namesCall 232 = .ok (.invokevirtual 610, 3) := by decide +kernel
theorem dX0_namesCall_235 : decode cX0_namesCall 235 = .ok (.i2l, 1) := by decide +kernel
theorem dX0_namesCall_236 : decode cX0_namesCall 236 = .ok (.lreturn, 1) := by decide +kernel
theorem dX0_namesCall_237 : decode cX0_namesCall 237 = .ok (.aload_n 0, 1) := by decide +kernel
theorem dX0_namesCall_238 : decode cX0_namesCall 238 = .ok (.getfield 22, 3) := by decide +kernel
theorem dX0_namesCall_241 : decode cX0_namesCall 241 = .ok (.aload_n 0, 1) := by decide +kernel
theorem dX0_namesCall_242 : decode cX0_namesCall 242 = .ok (.iconst 0, 1) := by decide +kernel
theorem dX0_namesCall_243 : decode cX0_namesCall 243 = .ok (.invokevirtual 587, 3) := by decide +kernel
theorem dX0_namesCall_246 : decode cX0_namesCall 246 = .ok (.invokevirtual 612, 3) := by decide +kernel
theorem dX0_namesCall_249 : decode cX0_namesCall 249 = .ok (.i2l, 1) := by decide +kernel
theorem dX0_namesCall_250 : decode cX0_namesCall 250 = .ok (.lreturn, 1) := by decide +kernel
theorem dX0_namesCall_251 : decode cX0_namesCall 251 = .ok (.aload_n 0, 1) := by decide +kernel
theorem dX0_namesCall_252 : decode cX0_namesCall 252 = .ok (.getfield 22, 3) := by decide +kernel
theorem dX0_namesCall_255 : decode cX0_namesCall 255 = .ok (.aload_n 0, 1) := by decide +kernel
theorem dX0_namesCall_256 : decode cX0_namesCall 256 = .ok (.iconst 0, 1) := by decide +kernel
theorem dX0_namesCall_257 : decode cX0_namesCall 257 = .ok (.invokevirtual 587, 3) := by decide +kernel
theorem dX0_namesCall_260 : decode cX0_namesCall 260 = .ok (.invokevirtual 614, 3) := by decide +kernel
theorem dX0_namesCall_263 : decode cX0_namesCall 263 = .ok (.i2l, 1) := by decide +kernel
theorem dX0_namesCall_264 : decode cX0_namesCall 264 = .ok (.lreturn, 1) := by decide +kernel
theorem dX0_namesCall_265 : decode cX0_namesCall 265 = .ok (.aload_n 0, 1) := by decide +kernel
theorem dX0_namesCall_266 : decode cX0_namesCall 266 = .ok (.getfield 22, 3) := by decide +kernel
theorem dX0_namesCall_269 : decode cX0_namesCall 269 = .ok (.aload_n 0, 1) := by decide +kernel
theorem dX0_namesCall_270 : decode cX0_namesCall 270 = .ok (.iconst 0, 1) := by decide +kernel
theorem dX0_namesCall_271 : decode cX0_namesCall 271 = .ok (.invokevirtual 587, 3) := by decide +kernel
theorem dX0_namesCall_274 : decode cX0_namesCall 274 = .ok (.invokevirtual 616, 3) := by decide +kernel
theorem dX0_namesCall_277 : decode cX0_namesCall 277 = .ok (.i2l, 1) := by decide +kernel
theorem dX0_namesCall_278 : decode cX0_namesCall 278 = .ok (.lreturn, 1) := by decide +kernel
theorem dX0_namesCall_279 : decode cX0_namesCall 279 = .ok (.aload_n 0, 1) := by decide +kernel
theorem dX0_namesCall_280 : decode cX0_namesCall 280 = .ok (.getfield 22, 3) := by decide +kernel
theorem dX0_namesCall_283 : decode cX0_namesCall 283 = .ok (.invokevirtual 618, 3) := by decide +kernel
theorem dX0_namesCall_286 : decode cX0_namesCall 286 = .ok (.i2l, 1) := by decide +kernel
theorem dX0_namesCall_287 : decode cX0_namesCall 287 = .ok (.lreturn, 1) := by decide +kernel
theorem dX0_namesCall_288 : decode cX0_namesCall 288 = .ok (.aload_n 0, 1) := by decide +kernel
theorem dX0_namesCall_289 : decode cX0_namesCall 289 = .ok (.getfield 22, 3) := by decide +kernel
theorem dX0_namesCall_292 : decode cX0_namesCall 292 = .ok (.invokevirtual 620, 3) := by decide +kernel
theorem dX0_namesCall_295 : decode cX0_namesCall 295 = .ok (.i2l, 1) := by decide +kernel
theorem dX0_namesCall_296 : decode cX0_namesCall 296 = .ok (.lreturn, 1) := by decide +kernel
theorem dX0_namesCall_297 : decode cX0_namesCall 297 = .ok (.ldc2_w 535, 3) := by decide +kernel
theorem dX0_namesCall_300 : decode cX0_namesCall 300 = .ok (.lreturn, 1) := by decide +kernel
abbrev cX0_versionsCall : ByteArray := prog_1_method_28_code
def yX0_versionsCall : MethodName := ⟨RX0, "versionsCall", "(I)J"⟩
theorem dX0_versionsCall_0 : decode cX0_versionsCall 0 = .ok (.iload_n 1, 1) := by decide +kernel
theorem dX0_versionsCall_1 : decode cX0_versionsCall 1 = .ok (.tableswitch 348 0 17 #[87, 96, 110, 134, 153, 174, 195, 209, 223, 237, 251, 260, 269, 278, 287, 301, 315, 329], 87) := by decide +kernel
theorem dX0_versionsCall_88 : decode cX0_versionsCall 88 = .ok (.aload_n 0, 1) := by decide +kernel
theorem dX0_versionsCall_89 : decode cX0_versionsCall 89 = .ok (.getfield 29, 3) := by decide +kernel
theorem dX0_versionsCall_92 : decode cX0_versionsCall 92 = .ok (.invokevirtual 622, 3) := by decide +kernel
theorem dX0_versionsCall_95 : decode cX0_versionsCall 95 = .ok (.i2l, 1) := by decide +kernel
theorem dX0_versionsCall_96 : decode cX0_versionsCall 96 = .ok (.lreturn, 1) := by decide +kernel
theorem dX0_versionsCall_97 : decode cX0_versionsCall 97 = .ok (.aload_n 0, 1) := by decide +kernel
theorem dX0_versionsCall_98 : decode cX0_versionsCall 98 = .ok (.getfield 29, 3) := by decide +kernel
theorem dX0_versionsCall_101 : decode cX0_versionsCall 101 = .ok (.aload_n 0, 1) := by decide +kernel
theorem dX0_versionsCall_102 : decode cX0_versionsCall 102 = .ok (.iconst 0, 1) := by decide +kernel
theorem dX0_versionsCall_103 : decode cX0_versionsCall 103 = .ok (.invokevirtual 587, 3) := by decide +kernel
theorem dX0_versionsCall_106 : decode cX0_versionsCall 106 = .ok (.invokevirtual 624, 3) := by decide +kernel
theorem dX0_versionsCall_109 : decode cX0_versionsCall 109 = .ok (.i2l, 1) := by decide +kernel
theorem dX0_versionsCall_110 : decode cX0_versionsCall 110 = .ok (.lreturn, 1) := by decide +kernel
theorem dX0_versionsCall_111 : decode cX0_versionsCall 111 = .ok (.aload_n 0, 1) := by decide +kernel
theorem dX0_versionsCall_112 : decode cX0_versionsCall 112 = .ok (.getfield 29, 3) := by decide +kernel
theorem dX0_versionsCall_115 : decode cX0_versionsCall 115 = .ok (.aload_n 0, 1) := by decide +kernel
theorem dX0_versionsCall_116 : decode cX0_versionsCall 116 = .ok (.iconst 0, 1) := by decide +kernel
theorem dX0_versionsCall_117 : decode cX0_versionsCall 117 = .ok (.invokevirtual 587, 3) := by decide +kernel
theorem dX0_versionsCall_120 : decode cX0_versionsCall 120 = .ok (.aload_n 0, 1) := by decide +kernel
theorem dX0_versionsCall_121 : decode cX0_versionsCall 121 = .ok (.iconst 1, 1) := by decide +kernel
theorem dX0_versionsCall_122 : decode cX0_versionsCall 122 = .ok (.invokevirtual 587, 3) := by decide +kernel
theorem dX0_versionsCall_125 : decode cX0_versionsCall 125 = .ok (.aload_n 0, 1) := by decide +kernel
theorem dX0_versionsCall_126 : decode cX0_versionsCall 126 = .ok (.iconst 2, 1) := by decide +kernel
theorem dX0_versionsCall_127 : decode cX0_versionsCall 127 = .ok (.invokevirtual 626, 3) := by decide +kernel
theorem dX0_versionsCall_130 : decode cX0_versionsCall 130 = .ok (.invokevirtual 629, 3) := by decide +kernel
theorem dX0_versionsCall_133 : decode cX0_versionsCall 133 = .ok (.i2l, 1) := by decide +kernel
theorem dX0_versionsCall_134 : decode cX0_versionsCall 134 = .ok (.lreturn, 1) := by decide +kernel
theorem dX0_versionsCall_135 : decode cX0_versionsCall 135 = .ok (.aload_n 0, 1) := by decide +kernel
theorem dX0_versionsCall_136 : decode cX0_versionsCall 136 = .ok (.getfield 29, 3) := by decide +kernel
theorem dX0_versionsCall_139 : decode cX0_versionsCall 139 = .ok (.aload_n 0, 1) := by decide +kernel
theorem dX0_versionsCall_140 : decode cX0_versionsCall 140 = .ok (.iconst 0, 1) := by decide +kernel
theorem dX0_versionsCall_141 : decode cX0_versionsCall 141 = .ok (.invokevirtual 587, 3) := by decide +kernel
theorem dX0_versionsCall_144 : decode cX0_versionsCall 144 = .ok (.aload_n 0, 1) := by decide +kernel
theorem dX0_versionsCall_145 : decode cX0_versionsCall 145 = .ok (.iconst 1, 1) := by decide +kernel
theorem dX0_versionsCall_146 : decode cX0_versionsCall 146 = .ok (.invokevirtual 587, 3) := by decide +kernel
theorem dX0_versionsCall_149 : decode cX0_versionsCall 149 = .ok (.invokevirtual 632, 3) := by decide +kernel
theorem dX0_versionsCall_152 : decode cX0_versionsCall 152 = .ok (.i2l, 1) := by decide +kernel
theorem dX0_versionsCall_153 : decode cX0_versionsCall 153 = .ok (.lreturn, 1) := by decide +kernel
theorem dX0_versionsCall_154 : decode cX0_versionsCall 154 = .ok (.aload_n 0, 1) := by decide +kernel
theorem dX0_versionsCall_155 : decode cX0_versionsCall 155 = .ok (.getfield 29, 3) := by decide +kernel
theorem dX0_versionsCall_158 : decode cX0_versionsCall 158 = .ok (.aload_n 0, 1) := by decide +kernel
theorem dX0_versionsCall_159 : decode cX0_versionsCall 159 = .ok (.iconst 0, 1) := by decide +kernel
theorem dX0_versionsCall_160 : decode cX0_versionsCall 160 = .ok (.invokevirtual 587, 3) := by decide +kernel
theorem dX0_versionsCall_163 : decode cX0_versionsCall 163 = .ok (.aload_n 0, 1) := by decide +kernel
theorem dX0_versionsCall_164 : decode cX0_versionsCall 164 = .ok (.iconst 1, 1) := by decide +kernel
theorem dX0_versionsCall_165 : decode cX0_versionsCall 165 = .ok (.invokevirtual 587, 3) := by decide +kernel
theorem dX0_versionsCall_168 : decode cX0_versionsCall 168 = .ok (.invokevirtual 634, 3) := by decide +kernel
theorem dX0_versionsCall_171 : decode cX0_versionsCall 171 = .ok (.invokestatic 637, 3) := by decide +kernel
theorem dX0_versionsCall_174 : decode cX0_versionsCall 174 = .ok (.lreturn, 1) := by decide +kernel
theorem dX0_versionsCall_175 : decode cX0_versionsCall 175 = .ok (.aload_n 0, 1) := by decide +kernel
theorem dX0_versionsCall_176 : decode cX0_versionsCall 176 = .ok (.getfield 29, 3) := by decide +kernel
theorem dX0_versionsCall_179 : decode cX0_versionsCall 179 = .ok (.aload_n 0, 1) := by decide +kernel
theorem dX0_versionsCall_180 : decode cX0_versionsCall 180 = .ok (.iconst 0, 1) := by decide +kernel
theorem dX0_versionsCall_181 : decode cX0_versionsCall 181 = .ok (.invokevirtual 587, 3) := by decide +kernel
theorem dX0_versionsCall_184 : decode cX0_versionsCall 184 = .ok (.aload_n 0, 1) := by decide +kernel
theorem dX0_versionsCall_185 : decode cX0_versionsCall 185 = .ok (.iconst 1, 1) := by decide +kernel
theorem dX0_versionsCall_186 : decode cX0_versionsCall 186 = .ok (.invokevirtual 587, 3) := by decide +kernel
theorem dX0_versionsCall_189 : decode cX0_versionsCall 189 = .ok (.invokevirtual 640, 3) := by decide +kernel
theorem dX0_versionsCall_192 : decode cX0_versionsCall 192 = .ok (.invokestatic 637, 3) := by decide +kernel
theorem dX0_versionsCall_195 : decode cX0_versionsCall 195 = .ok (.lreturn, 1) := by decide +kernel
theorem dX0_versionsCall_196 : decode cX0_versionsCall 196 = .ok (.aload_n 0, 1) := by decide +kernel
theorem dX0_versionsCall_197 : decode cX0_versionsCall 197 = .ok (.getfield 29, 3) := by decide +kernel
theorem dX0_versionsCall_200 : decode cX0_versionsCall 200 = .ok (.aload_n 0, 1) := by decide +kernel
theorem dX0_versionsCall_201 : decode cX0_versionsCall 201 = .ok (.iconst 0, 1) := by decide +kernel
theorem dX0_versionsCall_202 : decode cX0_versionsCall 202 = .ok (.invokevirtual 587, 3) := by decide +kernel
theorem dX0_versionsCall_205 : decode cX0_versionsCall 205 = .ok (.invokevirtual 642, 3) := by decide +kernel
theorem dX0_versionsCall_208 : decode cX0_versionsCall 208 = .ok (.i2l, 1) := by decide +kernel
theorem dX0_versionsCall_209 : decode cX0_versionsCall 209 = .ok (.lreturn, 1) := by decide +kernel
theorem dX0_versionsCall_210 : decode cX0_versionsCall 210 = .ok (.aload_n 0, 1) := by decide +kernel
theorem dX0_versionsCall_211 : decode cX0_versionsCall 211 = .ok (.getfield 29, 3) := by decide +kernel
theorem dX0_versionsCall_214 : decode cX0_versionsCall 214 = .ok (.aload_n 0, 1) := by decide +kernel
theorem dX0_versionsCall_215 : decode cX0_versionsCall 215 = .ok (.iconst 0, 1) := by decide +kernel
theorem dX0_versionsCall_216 : decode cX0_versionsCall 216 = .ok (.invokevirtual 587, 3) := by decide +kernel
theorem dX0_versionsCall_219 : decode cX0_versionsCall 219 = .ok (.invokevirtual 644, 3) := by decide +kernel
theorem dX0_versionsCall_222 : decode cX0_versionsCall 222 = .ok (.i2l, 1) := by decide +kernel
theorem dX0_versionsCall_223 : decode cX0_versionsCall 223 = .ok (.lreturn, 1) := by decide +kernel
theorem dX0_versionsCall_224 : decode cX0_versionsCall 224 = .ok (.aload_n 0, 1) := by decide +kernel
theorem dX0_versionsCall_225 : decode cX0_versionsCall 225 = .ok (.getfield 29, 3) := by decide +kernel
theorem dX0_versionsCall_228 : decode cX0_versionsCall 228 = .ok (.aload_n 0, 1) := by decide +kernel
theorem dX0_versionsCall_229 : decode cX0_versionsCall 229 = .ok (.iconst 0, 1) := by decide +kernel
theorem dX0_versionsCall_230 : decode cX0_versionsCall 230 = .ok (.invokevirtual 587, 3) := by decide +kernel
theorem dX0_versionsCall_233 : decode cX0_versionsCall 233 = .ok (.invokevirtual 646, 3) := by decide +kernel
theorem dX0_versionsCall_236 : decode cX0_versionsCall 236 = .ok (.i2l, 1) := by decide +kernel
theorem dX0_versionsCall_237 : decode cX0_versionsCall 237 = .ok (.lreturn, 1) := by decide +kernel
theorem dX0_versionsCall_238 : decode cX0_versionsCall 238 = .ok (.aload_n 0, 1) := by decide +kernel
theorem dX0_versionsCall_239 : decode cX0_versionsCall 239 = .ok (.getfield 29, 3) := by decide +kernel
theorem dX0_versionsCall_242 : decode cX0_versionsCall 242 = .ok (.aload_n 0, 1) := by decide +kernel
theorem dX0_versionsCall_243 : decode cX0_versionsCall 243 = .ok (.iconst 0, 1) := by decide +kernel
theorem dX0_versionsCall_244 : decode cX0_versionsCall 244 = .ok (.invokevirtual 587, 3) := by decide +kernel
theorem dX0_versionsCall_247 : decode cX0_versionsCall 247 = .ok (.invokevirtual 648, 3) := by decide +kernel
theorem dX0_versionsCall_250 : decode cX0_versionsCall 250 = .ok (.i2l, 1) := by decide +kernel
theorem dX0_versionsCall_251 : decode cX0_versionsCall 251 = .ok (.lreturn, 1) := by decide +kernel
theorem dX0_versionsCall_252 : decode cX0_versionsCall 252 = .ok (.aload_n 0, 1) := by decide +kernel
theorem dX0_versionsCall_253 : decode cX0_versionsCall 253 = .ok (.getfield 29, 3) := by decide +kernel
theorem dX0_versionsCall_256 : decode cX0_versionsCall 256 = .ok (.invokevirtual 650, 3) := by decide +kernel
theorem dX0_versionsCall_259 : decode cX0_versionsCall 259 = .ok (.i2l, 1) := by decide +kernel
theorem dX0_versionsCall_260 : decode cX0_versionsCall 260 = .ok (.lreturn, 1) := by decide +kernel
theorem dX0_versionsCall_261 : decode cX0_versionsCall 261 = .ok (.aload_n 0, 1) := by decide +kernel
theorem dX0_versionsCall_262 : decode cX0_versionsCall 262 = .ok (.getfield 29, 3) := by decide +kernel
theorem dX0_versionsCall_265 : decode cX0_versionsCall 265 = .ok (.invokevirtual 652, 3) := by decide +kernel
theorem dX0_versionsCall_268 : decode cX0_versionsCall 268 = .ok (.i2l, 1) := by decide +kernel
theorem dX0_versionsCall_269 : decode cX0_versionsCall 269 = .ok (.lreturn, 1) := by decide +kernel
theorem dX0_versionsCall_270 : decode cX0_versionsCall 270 = .ok (.aload_n 0, 1) := by decide +kernel
theorem dX0_versionsCall_271 : decode cX0_versionsCall 271 = .ok (.getfield 29, 3) := by decide +kernel
theorem dX0_versionsCall_274 : decode cX0_versionsCall 274 = .ok (.invokevirtual 654, 3) := by decide +kernel
theorem dX0_versionsCall_277 : decode cX0_versionsCall 277 = .ok (.i2l, 1) := by decide +kernel
theorem dX0_versionsCall_278 : decode cX0_versionsCall 278 = .ok (.lreturn, 1) := by decide +kernel
theorem dX0_versionsCall_279 : decode cX0_versionsCall 279 = .ok (.aload_n 0, 1) := by decide +kernel
theorem dX0_versionsCall_280 : decode cX0_versionsCall 280 = .ok (.getfield 29, 3) := by decide +kernel
theorem dX0_versionsCall_283 : decode cX0_versionsCall 283 = .ok (.invokevirtual 656, 3) := by decide +kernel
theorem dX0_versionsCall_286 : decode cX0_versionsCall 286 = .ok (.i2l, 1) := by decide +kernel
theorem dX0_versionsCall_287 : decode cX0_versionsCall 287 = .ok (.lreturn, 1) := by decide +kernel
theorem dX0_versionsCall_288 : decode cX0_versionsCall 288 = .ok (.aload_n 0, 1) := by decide +kernel
theorem dX0_versionsCall_289 : decode cX0_versionsCall 289 = .ok (.getfield 29, 3) := by decide +kernel
theorem dX0_versionsCall_292 : decode cX0_versionsCall 292 = .ok (.aload_n 0, 1) := by decide +kernel
theorem dX0_versionsCall_293 : decode cX0_versionsCall 293 = .ok (.iconst 0, 1) := by decide +kernel
theorem dX0_versionsCall_294 : decode cX0_versionsCall 294 = .ok (.invokevirtual 587, 3) := by decide +kernel
theorem dX0_versionsCall_297 : decode cX0_versionsCall 297 = .ok (.invokevirtual 658, 3) := by decide +kernel
theorem dX0_versionsCall_300 : decode cX0_versionsCall 300 = .ok (.i2l, 1) := by decide +kernel
theorem dX0_versionsCall_301 : decode cX0_versionsCall 301 = .ok (.lreturn, 1) := by decide +kernel
theorem dX0_versionsCall_302 : decode cX0_versionsCall 302 = .ok (.aload_n 0, 1) := by decide +kernel
theorem dX0_versionsCall_303 : decode cX0_versionsCall 303 = .ok (.getfield 29, 3) := by decide +kernel
theorem dX0_versionsCall_306 : decode cX0_versionsCall 306 = .ok (.aload_n 0, 1) := by decide +kernel
theorem dX0_versionsCall_307 : decode cX0_versionsCall 307 = .ok (.iconst 0, 1) := by decide +kernel
theorem dX0_versionsCall_308 : decode cX0_versionsCall 308 = .ok (.invokevirtual 587, 3) := by decide +kernel
theorem dX0_versionsCall_311 : decode cX0_versionsCall 311 = .ok (.invokevirtual 660, 3) := by decide +kernel
theorem dX0_versionsCall_314 : decode cX0_versionsCall 314 = .ok (.i2l, 1) := by decide +kernel
theorem dX0_versionsCall_315 : decode cX0_versionsCall 315 = .ok (.lreturn, 1) := by decide +kernel
theorem dX0_versionsCall_316 : decode cX0_versionsCall 316 = .ok (.aload_n 0, 1) := by decide +kernel
theorem dX0_versionsCall_317 : decode cX0_versionsCall 317 = .ok (.getfield 29, 3) := by decide +kernel
theorem dX0_versionsCall_320 : decode cX0_versionsCall 320 = .ok (.aload_n 0, 1) := by decide +kernel
theorem dX0_versionsCall_321 : decode cX0_versionsCall 321 = .ok (.iconst 0, 1) := by decide +kernel
theorem dX0_versionsCall_322 : decode cX0_versionsCall 322 = .ok (.invokevirtual 587, 3) := by decide +kernel
theorem dX0_versionsCall_325 : decode cX0_versionsCall 325 = .ok (.invokevirtual 662, 3) := by decide +kernel
theorem dX0_versionsCall_328 : decode cX0_versionsCall 328 = .ok (.i2l, 1) := by decide +kernel
theorem dX0_versionsCall_329 : decode cX0_versionsCall 329 = .ok (.lreturn, 1) := by decide +kernel
theorem dX0_versionsCall_330 : decode cX0_versionsCall 330 = .ok (.aload_n 0, 1) := by decide +kernel
theorem dX0_versionsCall_331 : decode cX0_versionsCall 331 = .ok (.getfield 29, 3) := by decide +kernel
theorem dX0_versionsCall_334 : decode cX0_versionsCall 334 = .ok (.aload_n 0, 1) := by decide +kernel
theorem dX0_versionsCall_335 : decode cX0_versionsCall 335 = .ok (.iconst 0, 1) := by decide +kernel
theorem dX0_versionsCall_336 : decode cX0_versionsCall 336 = .ok (.invokevirtual 587, 3) := by decide +kernel
theorem dX0_versionsCall_339 : decode cX0_versionsCall 339 = .ok (.aload_n 0, 1) := by decide +kernel
theorem dX0_versionsCall_340 : decode cX0_versionsCall 340 = .ok (.iconst 1, 1) := by decide +kernel
theorem dX0_versionsCall_341 : decode cX0_versionsCall 341 = .ok (.invokevirtual 587, 3) := by decide +kernel
theorem dX0_versionsCall_344 : decode cX0_versionsCall 344 = .ok (.invokevirtual 664, 3) := by decide +kernel
theorem dX0_versionsCall_347 : decode cX0_versionsCall 347 = .ok (.i2l, 1) := by decide +kernel
theorem dX0_versionsCall_348 : decode cX0_versionsCall 348 = .ok (.lreturn, 1) := by decide +kernel
theorem dX0_versionsCall_349 : decode cX0_versionsCall 349 = .ok (.ldc2_w 535, 3) := by decide +kernel
theorem dX0_versionsCall_352 : decode cX0_versionsCall 352 = .ok (.lreturn, 1) := by decide +kernel
abbrev cX0_told : ByteArray := prog_1_method_25_code
def yX0_told : MethodName := ⟨RX0, "told", "(Z)J"⟩
theorem dX0_told_0 : decode cX0_told 0 = .ok (.iload_n 0, 1) := by decide +kernel
theorem dX0_told_1 : decode cX0_told 1 = .ok (.ifCond .eq 7, 3) := by decide +kernel
theorem dX0_told_4 : decode cX0_told 4 = .ok (.lconst 1, 1) := by decide +kernel
theorem dX0_told_5 : decode cX0_told 5 = .ok (.goto 4, 3) := by decide +kernel
theorem dX0_told_8 : decode cX0_told 8 = .ok (.lconst 0, 1) := by decide +kernel
theorem dX0_told_9 : decode cX0_told 9 = .ok (.lreturn, 1) := by decide +kernel
abbrev cX0_valuesCall : ByteArray := prog_1_method_29_code
def yX0_valuesCall : MethodName := ⟨RX0, "valuesCall", "(I)J"⟩
theorem dX0_valuesCall_0 : decode cX0_valuesCall 0 = .ok (.iload_n 1, 1) := by decide +kernel
theorem dX0_valuesCall_1 : decode cX0_valuesCall 1 = .ok (.tableswitch 220 0 9 #[55, 75, 89, 98, 112, 131, 149, 168, 182, 196], 55) := by decide +kernel
theorem dX0_valuesCall_56 : decode cX0_valuesCall 56 = .ok (.aload_n 0, 1) := by decide +kernel
theorem dX0_valuesCall_57 : decode cX0_valuesCall 57 = .ok (.getfield 36, 3) := by decide +kernel
theorem dX0_valuesCall_60 : decode cX0_valuesCall 60 = .ok (.aload_n 0, 1) := by decide +kernel
theorem dX0_valuesCall_61 : decode cX0_valuesCall 61 = .ok (.getfield 109, 3) := by decide +kernel
theorem dX0_valuesCall_64 : decode cX0_valuesCall 64 = .ok (.iconst 0, 1) := by decide +kernel
theorem dX0_valuesCall_65 : decode cX0_valuesCall 65 = .ok (.laload, 1) := by decide +kernel
theorem dX0_valuesCall_66 : decode cX0_valuesCall 66 = .ok (.aload_n 0, 1) := by decide +kernel
theorem dX0_valuesCall_67 : decode cX0_valuesCall 67 = .ok (.iconst 1, 1) := by decide +kernel
theorem dX0_valuesCall_68 : decode cX0_valuesCall 68 = .ok (.invokevirtual 587, 3) := by decide +kernel
theorem dX0_valuesCall_71 : decode cX0_valuesCall 71 = .ok (.invokevirtual 666, 3) := by decide +kernel
theorem dX0_valuesCall_74 : decode cX0_valuesCall 74 = .ok (.i2l, 1) := by decide +kernel
theorem dX0_valuesCall_75 : decode cX0_valuesCall 75 = .ok (.lreturn, 1) := by decide +kernel
theorem dX0_valuesCall_76 : decode cX0_valuesCall 76 = .ok (.aload_n 0, 1) := by decide +kernel
theorem dX0_valuesCall_77 : decode cX0_valuesCall 77 = .ok (.getfield 36, 3) := by decide +kernel
theorem dX0_valuesCall_80 : decode cX0_valuesCall 80 = .ok (.aload_n 0, 1) := by decide +kernel
theorem dX0_valuesCall_81 : decode cX0_valuesCall 81 = .ok (.iconst 0, 1) := by decide +kernel
theorem dX0_valuesCall_82 : decode cX0_valuesCall 82 = .ok (.invokevirtual 587, 3) := by decide +kernel
theorem dX0_valuesCall_85 : decode cX0_valuesCall 85 = .ok (.invokevirtual 669, 3) := by decide +kernel
theorem dX0_valuesCall_88 : decode cX0_valuesCall 88 = .ok (.i2l, 1) := by decide +kernel
theorem dX0_valuesCall_89 : decode cX0_valuesCall 89 = .ok (.lreturn, 1) := by decide +kernel
theorem dX0_valuesCall_90 : decode cX0_valuesCall 90 = .ok (.aload_n 0, 1) := by decide +kernel
theorem dX0_valuesCall_91 : decode cX0_valuesCall 91 = .ok (.getfield 36, 3) := by decide +kernel
theorem dX0_valuesCall_94 : decode cX0_valuesCall 94 = .ok (.invokevirtual 671, 3) := by decide +kernel
theorem dX0_valuesCall_97 : decode cX0_valuesCall 97 = .ok (.i2l, 1) := by decide +kernel
theorem dX0_valuesCall_98 : decode cX0_valuesCall 98 = .ok (.lreturn, 1) := by decide +kernel
theorem dX0_valuesCall_99 : decode cX0_valuesCall 99 = .ok (.aload_n 0, 1) := by decide +kernel
theorem dX0_valuesCall_100 : decode cX0_valuesCall 100 = .ok (.getfield 36, 3) := by decide +kernel
theorem dX0_valuesCall_103 : decode cX0_valuesCall 103 = .ok (.aload_n 0, 1) := by decide +kernel
theorem dX0_valuesCall_104 : decode cX0_valuesCall 104 = .ok (.iconst 0, 1) := by decide +kernel
theorem dX0_valuesCall_105 : decode cX0_valuesCall 105 = .ok (.invokevirtual 587, 3) := by decide +kernel
theorem dX0_valuesCall_108 : decode cX0_valuesCall 108 = .ok (.invokevirtual 673, 3) := by decide +kernel
theorem dX0_valuesCall_111 : decode cX0_valuesCall 111 = .ok (.i2l, 1) := by decide +kernel
theorem dX0_valuesCall_112 : decode cX0_valuesCall 112 = .ok (.lreturn, 1) := by decide +kernel
theorem dX0_valuesCall_113 : decode cX0_valuesCall 113 = .ok (.aload_n 0, 1) := by decide +kernel
theorem dX0_valuesCall_114 : decode cX0_valuesCall 114 = .ok (.getfield 36, 3) := by decide +kernel
theorem dX0_valuesCall_117 : decode cX0_valuesCall 117 = .ok (.aload_n 0, 1) := by decide +kernel
theorem dX0_valuesCall_118 : decode cX0_valuesCall 118 = .ok (.iconst 0, 1) := by decide +kernel
theorem dX0_valuesCall_119 : decode cX0_valuesCall 119 = .ok (.invokevirtual 587, 3) := by decide +kernel
theorem dX0_valuesCall_122 : decode cX0_valuesCall 122 = .ok (.aload_n 0, 1) := by decide +kernel
theorem dX0_valuesCall_123 : decode cX0_valuesCall 123 = .ok (.iconst 1, 1) := by decide +kernel
theorem dX0_valuesCall_124 : decode cX0_valuesCall 124 = .ok (.invokevirtual 587, 3) := by decide +kernel
theorem dX0_valuesCall_127 : decode cX0_valuesCall 127 = .ok (.invokevirtual 675, 3) := by decide +kernel
theorem dX0_valuesCall_130 : decode cX0_valuesCall 130 = .ok (.i2l, 1) := by decide +kernel
theorem dX0_valuesCall_131 : decode cX0_valuesCall 131 = .ok (.lreturn, 1) := by decide +kernel
theorem dX0_valuesCall_132 : decode cX0_valuesCall 132 = .ok (.aload_n 0, 1) := by decide +kernel
theorem dX0_valuesCall_133 : decode cX0_valuesCall 133 = .ok (.getfield 36, 3) := by decide +kernel
theorem dX0_valuesCall_136 : decode cX0_valuesCall 136 = .ok (.aload_n 0, 1) := by decide +kernel
theorem dX0_valuesCall_137 : decode cX0_valuesCall 137 = .ok (.iconst 0, 1) := by decide +kernel
theorem dX0_valuesCall_138 : decode cX0_valuesCall 138 = .ok (.invokevirtual 587, 3) := by decide +kernel
theorem dX0_valuesCall_141 : decode cX0_valuesCall 141 = .ok (.aload_n 0, 1) := by decide +kernel
theorem dX0_valuesCall_142 : decode cX0_valuesCall 142 = .ok (.iconst 1, 1) := by decide +kernel
theorem dX0_valuesCall_143 : decode cX0_valuesCall 143 = .ok (.invokevirtual 587, 3) := by decide +kernel
theorem dX0_valuesCall_146 : decode cX0_valuesCall 146 = .ok (.invokevirtual 677, 3) := by decide +kernel
theorem dX0_valuesCall_149 : decode cX0_valuesCall 149 = .ok (.lreturn, 1) := by decide +kernel
theorem dX0_valuesCall_150 : decode cX0_valuesCall 150 = .ok (.aload_n 0, 1) := by decide +kernel
theorem dX0_valuesCall_151 : decode cX0_valuesCall 151 = .ok (.getfield 36, 3) := by decide +kernel
theorem dX0_valuesCall_154 : decode cX0_valuesCall 154 = .ok (.aload_n 0, 1) := by decide +kernel
theorem dX0_valuesCall_155 : decode cX0_valuesCall 155 = .ok (.iconst 0, 1) := by decide +kernel
theorem dX0_valuesCall_156 : decode cX0_valuesCall 156 = .ok (.invokevirtual 587, 3) := by decide +kernel
theorem dX0_valuesCall_159 : decode cX0_valuesCall 159 = .ok (.aload_n 0, 1) := by decide +kernel
theorem dX0_valuesCall_160 : decode cX0_valuesCall 160 = .ok (.iconst 1, 1) := by decide +kernel
theorem dX0_valuesCall_161 : decode cX0_valuesCall 161 = .ok (.invokevirtual 587, 3) := by decide +kernel
theorem dX0_valuesCall_164 : decode cX0_valuesCall 164 = .ok (.invokevirtual 679, 3) := by decide +kernel
theorem dX0_valuesCall_167 : decode cX0_valuesCall 167 = .ok (.i2l, 1) := by decide +kernel
theorem dX0_valuesCall_168 : decode cX0_valuesCall 168 = .ok (.lreturn, 1) := by decide +kernel
theorem dX0_valuesCall_169 : decode cX0_valuesCall 169 = .ok (.aload_n 0, 1) := by decide +kernel
theorem dX0_valuesCall_170 : decode cX0_valuesCall 170 = .ok (.getfield 36, 3) := by decide +kernel
theorem dX0_valuesCall_173 : decode cX0_valuesCall 173 = .ok (.aload_n 0, 1) := by decide +kernel
theorem dX0_valuesCall_174 : decode cX0_valuesCall 174 = .ok (.iconst 0, 1) := by decide +kernel
theorem dX0_valuesCall_175 : decode cX0_valuesCall 175 = .ok (.invokevirtual 587, 3) := by decide +kernel
theorem dX0_valuesCall_178 : decode cX0_valuesCall 178 = .ok (.invokevirtual 681, 3) := by decide +kernel
theorem dX0_valuesCall_181 : decode cX0_valuesCall 181 = .ok (.i2l, 1) := by decide +kernel
theorem dX0_valuesCall_182 : decode cX0_valuesCall 182 = .ok (.lreturn, 1) := by decide +kernel
theorem dX0_valuesCall_183 : decode cX0_valuesCall 183 = .ok (.aload_n 0, 1) := by decide +kernel
theorem dX0_valuesCall_184 : decode cX0_valuesCall 184 = .ok (.getfield 36, 3) := by decide +kernel
theorem dX0_valuesCall_187 : decode cX0_valuesCall 187 = .ok (.aload_n 0, 1) := by decide +kernel
theorem dX0_valuesCall_188 : decode cX0_valuesCall 188 = .ok (.iconst 0, 1) := by decide +kernel
theorem dX0_valuesCall_189 : decode cX0_valuesCall 189 = .ok (.invokevirtual 587, 3) := by decide +kernel
theorem dX0_valuesCall_192 : decode cX0_valuesCall 192 = .ok (.invokevirtual 683, 3) := by decide +kernel
theorem dX0_valuesCall_195 : decode cX0_valuesCall 195 = .ok (.i2l, 1) := by decide +kernel
theorem dX0_valuesCall_196 : decode cX0_valuesCall 196 = .ok (.lreturn, 1) := by decide +kernel
theorem dX0_valuesCall_197 : decode cX0_valuesCall 197 = .ok (.aload_n 0, 1) := by decide +kernel
theorem dX0_valuesCall_198 : decode cX0_valuesCall 198 = .ok (.getfield 36, 3) := by decide +kernel
theorem dX0_valuesCall_201 : decode cX0_valuesCall 201 = .ok (.aload_n 0, 1) := by decide +kernel
theorem dX0_valuesCall_202 : decode cX0_valuesCall 202 = .ok (.iconst 0, 1) := by decide +kernel
theorem dX0_valuesCall_203 : decode cX0_valuesCall 203 = .ok (.invokevirtual 587, 3) := by decide +kernel
theorem dX0_valuesCall_206 : decode cX0_valuesCall 206 = .ok (.aload_n 0, 1) := by decide +kernel
theorem dX0_valuesCall_207 : decode cX0_valuesCall 207 = .ok (.iconst 1, 1) := by decide +kernel
theorem dX0_valuesCall_208 : decode cX0_valuesCall 208 = .ok (.invokevirtual 587, 3) := by decide +kernel
theorem dX0_valuesCall_211 : decode cX0_valuesCall 211 = .ok (.aload_n 0, 1) := by decide +kernel
theorem dX0_valuesCall_212 : decode cX0_valuesCall 212 = .ok (.iconst 2, 1) := by decide +kernel
theorem dX0_valuesCall_213 : decode cX0_valuesCall 213 = .ok (.invokevirtual 587, 3) := by decide +kernel
theorem dX0_valuesCall_216 : decode cX0_valuesCall 216 = .ok (.invokevirtual 685, 3) := by decide +kernel
theorem dX0_valuesCall_219 : decode cX0_valuesCall 219 = .ok (.i2l, 1) := by decide +kernel
theorem dX0_valuesCall_220 : decode cX0_valuesCall 220 = .ok (.lreturn, 1) := by decide +kernel
theorem dX0_valuesCall_221 : decode cX0_valuesCall 221 = .ok (.ldc2_w 535, 3) := by decide +kernel
theorem dX0_valuesCall_224 : decode cX0_valuesCall 224 = .ok (.lreturn, 1) := by decide +kernel
abbrev cX0_proofsCall : ByteArray := prog_1_method_30_code
def yX0_proofsCall : MethodName := ⟨RX0, "proofsCall", "(I)J"⟩
theorem dX0_proofsCall_0 : decode cX0_proofsCall 0 = .ok (.iload_n 1, 1) := by decide +kernel
theorem dX0_proofsCall_1 : decode cX0_proofsCall 1 = .ok (.tableswitch 309 0 13 #[71, 95, 119, 143, 162, 176, 185, 199, 213, 227, 241, 260, 274, 288], 71) := by decide +kernel
theorem dX0_proofsCall_72 : decode cX0_proofsCall 72 = .ok (.aload_n 0, 1) := by decide +kernel
theorem dX0_proofsCall_73 : decode cX0_proofsCall 73 = .ok (.getfield 43, 3) := by decide +kernel
theorem dX0_proofsCall_76 : decode cX0_proofsCall 76 = .ok (.aload_n 0, 1) := by decide +kernel
theorem dX0_proofsCall_77 : decode cX0_proofsCall 77 = .ok (.iconst 0, 1) := by decide +kernel
theorem dX0_proofsCall_78 : decode cX0_proofsCall 78 = .ok (.invokevirtual 587, 3) := by decide +kernel
theorem dX0_proofsCall_81 : decode cX0_proofsCall 81 = .ok (.aload_n 0, 1) := by decide +kernel
theorem dX0_proofsCall_82 : decode cX0_proofsCall 82 = .ok (.iconst 1, 1) := by decide +kernel
theorem dX0_proofsCall_83 : decode cX0_proofsCall 83 = .ok (.invokevirtual 587, 3) := by decide +kernel
theorem dX0_proofsCall_86 : decode cX0_proofsCall 86 = .ok (.aload_n 0, 1) := by decide +kernel
theorem dX0_proofsCall_87 : decode cX0_proofsCall 87 = .ok (.iconst 2, 1) := by decide +kernel
theorem dX0_proofsCall_88 : decode cX0_proofsCall 88 = .ok (.invokevirtual 587, 3) := by decide +kernel
theorem dX0_proofsCall_91 : decode cX0_proofsCall 91 = .ok (.invokevirtual 687, 3) := by decide +kernel
theorem dX0_proofsCall_94 : decode cX0_proofsCall 94 = .ok (.i2l, 1) := by decide +kernel
theorem dX0_proofsCall_95 : decode cX0_proofsCall 95 = .ok (.lreturn, 1) := by decide +kernel
theorem dX0_proofsCall_96 : decode cX0_proofsCall 96 = .ok (.aload_n 0, 1) := by decide +kernel
theorem dX0_proofsCall_97 : decode cX0_proofsCall 97 = .ok (.getfield 43, 3) := by decide +kernel
theorem dX0_proofsCall_100 : decode cX0_proofsCall 100 = .ok (.aload_n 0, 1) := by decide +kernel
theorem dX0_proofsCall_101 : decode cX0_proofsCall 101 = .ok (.iconst 0, 1) := by decide +kernel
theorem dX0_proofsCall_102 : decode cX0_proofsCall 102 = .ok (.invokevirtual 587, 3) := by decide +kernel
theorem dX0_proofsCall_105 : decode cX0_proofsCall 105 = .ok (.aload_n 0, 1) := by decide +kernel
theorem dX0_proofsCall_106 : decode cX0_proofsCall 106 = .ok (.iconst 1, 1) := by decide +kernel
theorem dX0_proofsCall_107 : decode cX0_proofsCall 107 = .ok (.invokevirtual 587, 3) := by decide +kernel
theorem dX0_proofsCall_110 : decode cX0_proofsCall 110 = .ok (.aload_n 0, 1) := by decide +kernel
theorem dX0_proofsCall_111 : decode cX0_proofsCall 111 = .ok (.iconst 2, 1) := by decide +kernel
theorem dX0_proofsCall_112 : decode cX0_proofsCall 112 = .ok (.invokevirtual 587, 3) := by decide +kernel
theorem dX0_proofsCall_115 : decode cX0_proofsCall 115 = .ok (.invokevirtual 689, 3) := by decide +kernel
theorem dX0_proofsCall_118 : decode cX0_proofsCall 118 = .ok (.i2l, 1) := by decide +kernel
theorem dX0_proofsCall_119 : decode cX0_proofsCall 119 = .ok (.lreturn, 1) := by decide +kernel
theorem dX0_proofsCall_120 : decode cX0_proofsCall 120 = .ok (.aload_n 0, 1) := by decide +kernel
theorem dX0_proofsCall_121 : decode cX0_proofsCall 121 = .ok (.getfield 43, 3) := by decide +kernel
theorem dX0_proofsCall_124 : decode cX0_proofsCall 124 = .ok (.aload_n 0, 1) := by decide +kernel
theorem dX0_proofsCall_125 : decode cX0_proofsCall 125 = .ok (.iconst 0, 1) := by decide +kernel
theorem dX0_proofsCall_126 : decode cX0_proofsCall 126 = .ok (.invokevirtual 587, 3) := by decide +kernel
theorem dX0_proofsCall_129 : decode cX0_proofsCall 129 = .ok (.aload_n 0, 1) := by decide +kernel
theorem dX0_proofsCall_130 : decode cX0_proofsCall 130 = .ok (.iconst 1, 1) := by decide +kernel
theorem dX0_proofsCall_131 : decode cX0_proofsCall 131 = .ok (.invokevirtual 587, 3) := by decide +kernel
theorem dX0_proofsCall_134 : decode cX0_proofsCall 134 = .ok (.aload_n 0, 1) := by decide +kernel
theorem dX0_proofsCall_135 : decode cX0_proofsCall 135 = .ok (.iconst 2, 1) := by decide +kernel
theorem dX0_proofsCall_136 : decode cX0_proofsCall 136 = .ok (.invokevirtual 587, 3) := by decide +kernel
theorem dX0_proofsCall_139 : decode cX0_proofsCall 139 = .ok (.invokevirtual 690, 3) := by decide +kernel
theorem dX0_proofsCall_142 : decode cX0_proofsCall 142 = .ok (.i2l, 1) := by decide +kernel
theorem dX0_proofsCall_143 : decode cX0_proofsCall 143 = .ok (.lreturn, 1) := by decide +kernel
theorem dX0_proofsCall_144 : decode cX0_proofsCall 144 = .ok (.aload_n 0, 1) := by decide +kernel
theorem dX0_proofsCall_145 : decode cX0_proofsCall 145 = .ok (.getfield 43, 3) := by decide +kernel
theorem dX0_proofsCall_148 : decode cX0_proofsCall 148 = .ok (.aload_n 0, 1) := by decide +kernel
theorem dX0_proofsCall_149 : decode cX0_proofsCall 149 = .ok (.iconst 0, 1) := by decide +kernel
theorem dX0_proofsCall_150 : decode cX0_proofsCall 150 = .ok (.invokevirtual 587, 3) := by decide +kernel
theorem dX0_proofsCall_153 : decode cX0_proofsCall 153 = .ok (.aload_n 0, 1) := by decide +kernel
theorem dX0_proofsCall_154 : decode cX0_proofsCall 154 = .ok (.iconst 1, 1) := by decide +kernel
theorem dX0_proofsCall_155 : decode cX0_proofsCall 155 = .ok (.invokevirtual 587, 3) := by decide +kernel
theorem dX0_proofsCall_158 : decode cX0_proofsCall 158 = .ok (.invokevirtual 692, 3) := by decide +kernel
theorem dX0_proofsCall_161 : decode cX0_proofsCall 161 = .ok (.i2l, 1) := by decide +kernel
theorem dX0_proofsCall_162 : decode cX0_proofsCall 162 = .ok (.lreturn, 1) := by decide +kernel
theorem dX0_proofsCall_163 : decode cX0_proofsCall 163 = .ok (.aload_n 0, 1) := by decide +kernel
theorem dX0_proofsCall_164 : decode cX0_proofsCall 164 = .ok (.getfield 43, 3) := by decide +kernel
theorem dX0_proofsCall_167 : decode cX0_proofsCall 167 = .ok (.aload_n 0, 1) := by decide +kernel
theorem dX0_proofsCall_168 : decode cX0_proofsCall 168 = .ok (.iconst 0, 1) := by decide +kernel
theorem dX0_proofsCall_169 : decode cX0_proofsCall 169 = .ok (.invokevirtual 587, 3) := by decide +kernel
theorem dX0_proofsCall_172 : decode cX0_proofsCall 172 = .ok (.invokevirtual 694, 3) := by decide +kernel
theorem dX0_proofsCall_175 : decode cX0_proofsCall 175 = .ok (.i2l, 1) := by decide +kernel
theorem dX0_proofsCall_176 : decode cX0_proofsCall 176 = .ok (.lreturn, 1) := by decide +kernel
theorem dX0_proofsCall_177 : decode cX0_proofsCall 177 = .ok (.aload_n 0, 1) := by decide +kernel
theorem dX0_proofsCall_178 : decode cX0_proofsCall 178 = .ok (.getfield 43, 3) := by decide +kernel
theorem dX0_proofsCall_181 : decode cX0_proofsCall 181 = .ok (.invokevirtual 696, 3) := by decide +kernel
theorem dX0_proofsCall_184 : decode cX0_proofsCall 184 = .ok (.i2l, 1) := by decide +kernel
theorem dX0_proofsCall_185 : decode cX0_proofsCall 185 = .ok (.lreturn, 1) := by decide +kernel
theorem dX0_proofsCall_186 : decode cX0_proofsCall 186 = .ok (.aload_n 0, 1) := by decide +kernel
theorem dX0_proofsCall_187 : decode cX0_proofsCall 187 = .ok (.getfield 43, 3) := by decide +kernel
theorem dX0_proofsCall_190 : decode cX0_proofsCall 190 = .ok (.aload_n 0, 1) := by decide +kernel
theorem dX0_proofsCall_191 : decode cX0_proofsCall 191 = .ok (.iconst 0, 1) := by decide +kernel
theorem dX0_proofsCall_192 : decode cX0_proofsCall 192 = .ok (.invokevirtual 587, 3) := by decide +kernel
theorem dX0_proofsCall_195 : decode cX0_proofsCall 195 = .ok (.invokevirtual 698, 3) := by decide +kernel
theorem dX0_proofsCall_198 : decode cX0_proofsCall 198 = .ok (.i2l, 1) := by decide +kernel
theorem dX0_proofsCall_199 : decode cX0_proofsCall 199 = .ok (.lreturn, 1) := by decide +kernel
theorem dX0_proofsCall_200 : decode cX0_proofsCall 200 = .ok (.aload_n 0, 1) := by decide +kernel
theorem dX0_proofsCall_201 : decode cX0_proofsCall 201 = .ok (.getfield 43, 3) := by decide +kernel
theorem dX0_proofsCall_204 : decode cX0_proofsCall 204 = .ok (.aload_n 0, 1) := by decide +kernel
theorem dX0_proofsCall_205 : decode cX0_proofsCall 205 = .ok (.iconst 0, 1) := by decide +kernel
theorem dX0_proofsCall_206 : decode cX0_proofsCall 206 = .ok (.invokevirtual 587, 3) := by decide +kernel
theorem dX0_proofsCall_209 : decode cX0_proofsCall 209 = .ok (.invokevirtual 700, 3) := by decide +kernel
theorem dX0_proofsCall_212 : decode cX0_proofsCall 212 = .ok (.i2l, 1) := by decide +kernel
theorem dX0_proofsCall_213 : decode cX0_proofsCall 213 = .ok (.lreturn, 1) := by decide +kernel
theorem dX0_proofsCall_214 : decode cX0_proofsCall 214 = .ok (.aload_n 0, 1) := by decide +kernel
theorem dX0_proofsCall_215 : decode cX0_proofsCall 215 = .ok (.getfield 43, 3) := by decide +kernel
theorem dX0_proofsCall_218 : decode cX0_proofsCall 218 = .ok (.aload_n 0, 1) := by decide +kernel
theorem dX0_proofsCall_219 : decode cX0_proofsCall 219 = .ok (.iconst 0, 1) := by decide +kernel
theorem dX0_proofsCall_220 : decode cX0_proofsCall 220 = .ok (.invokevirtual 587, 3) := by decide +kernel
theorem dX0_proofsCall_223 : decode cX0_proofsCall 223 = .ok (.invokevirtual 702, 3) := by decide +kernel
theorem dX0_proofsCall_226 : decode cX0_proofsCall 226 = .ok (.i2l, 1) := by decide +kernel
theorem dX0_proofsCall_227 : decode cX0_proofsCall 227 = .ok (.lreturn, 1) := by decide +kernel
theorem dX0_proofsCall_228 : decode cX0_proofsCall 228 = .ok (.aload_n 0, 1) := by decide +kernel
theorem dX0_proofsCall_229 : decode cX0_proofsCall 229 = .ok (.getfield 43, 3) := by decide +kernel
theorem dX0_proofsCall_232 : decode cX0_proofsCall 232 = .ok (.aload_n 0, 1) := by decide +kernel
theorem dX0_proofsCall_233 : decode cX0_proofsCall 233 = .ok (.iconst 0, 1) := by decide +kernel
theorem dX0_proofsCall_234 : decode cX0_proofsCall 234 = .ok (.invokevirtual 587, 3) := by decide +kernel
theorem dX0_proofsCall_237 : decode cX0_proofsCall 237 = .ok (.invokevirtual 704, 3) := by decide +kernel
theorem dX0_proofsCall_240 : decode cX0_proofsCall 240 = .ok (.i2l, 1) := by decide +kernel
theorem dX0_proofsCall_241 : decode cX0_proofsCall 241 = .ok (.lreturn, 1) := by decide +kernel
theorem dX0_proofsCall_242 : decode cX0_proofsCall 242 = .ok (.aload_n 0, 1) := by decide +kernel
theorem dX0_proofsCall_243 : decode cX0_proofsCall 243 = .ok (.getfield 43, 3) := by decide +kernel
theorem dX0_proofsCall_246 : decode cX0_proofsCall 246 = .ok (.aload_n 0, 1) := by decide +kernel
theorem dX0_proofsCall_247 : decode cX0_proofsCall 247 = .ok (.iconst 0, 1) := by decide +kernel
theorem dX0_proofsCall_248 : decode cX0_proofsCall 248 = .ok (.invokevirtual 587, 3) := by decide +kernel
theorem dX0_proofsCall_251 : decode cX0_proofsCall 251 = .ok (.aload_n 0, 1) := by decide +kernel
theorem dX0_proofsCall_252 : decode cX0_proofsCall 252 = .ok (.iconst 1, 1) := by decide +kernel
theorem dX0_proofsCall_253 : decode cX0_proofsCall 253 = .ok (.invokevirtual 587, 3) := by decide +kernel
theorem dX0_proofsCall_256 : decode cX0_proofsCall 256 = .ok (.invokevirtual 706, 3) := by decide +kernel
theorem dX0_proofsCall_259 : decode cX0_proofsCall 259 = .ok (.i2l, 1) := by decide +kernel
theorem dX0_proofsCall_260 : decode cX0_proofsCall 260 = .ok (.lreturn, 1) := by decide +kernel
theorem dX0_proofsCall_261 : decode cX0_proofsCall 261 = .ok (.aload_n 0, 1) := by decide +kernel
theorem dX0_proofsCall_262 : decode cX0_proofsCall 262 = .ok (.getfield 43, 3) := by decide +kernel
theorem dX0_proofsCall_265 : decode cX0_proofsCall 265 = .ok (.aload_n 0, 1) := by decide +kernel
theorem dX0_proofsCall_266 : decode cX0_proofsCall 266 = .ok (.iconst 0, 1) := by decide +kernel
theorem dX0_proofsCall_267 : decode cX0_proofsCall 267 = .ok (.invokevirtual 587, 3) := by decide +kernel
theorem dX0_proofsCall_270 : decode cX0_proofsCall 270 = .ok (.invokevirtual 708, 3) := by decide +kernel
theorem dX0_proofsCall_273 : decode cX0_proofsCall 273 = .ok (.i2l, 1) := by decide +kernel
theorem dX0_proofsCall_274 : decode cX0_proofsCall 274 = .ok (.lreturn, 1) := by decide +kernel
theorem dX0_proofsCall_275 : decode cX0_proofsCall 275 = .ok (.aload_n 0, 1) := by decide +kernel
theorem dX0_proofsCall_276 : decode cX0_proofsCall 276 = .ok (.getfield 43, 3) := by decide +kernel
theorem dX0_proofsCall_279 : decode cX0_proofsCall 279 = .ok (.aload_n 0, 1) := by decide +kernel
theorem dX0_proofsCall_280 : decode cX0_proofsCall 280 = .ok (.iconst 0, 1) := by decide +kernel
theorem dX0_proofsCall_281 : decode cX0_proofsCall 281 = .ok (.invokevirtual 587, 3) := by decide +kernel
theorem dX0_proofsCall_284 : decode cX0_proofsCall 284 = .ok (.invokevirtual 710, 3) := by decide +kernel
theorem dX0_proofsCall_287 : decode cX0_proofsCall 287 = .ok (.i2l, 1) := by decide +kernel
theorem dX0_proofsCall_288 : decode cX0_proofsCall 288 = .ok (.lreturn, 1) := by decide +kernel
theorem dX0_proofsCall_289 : decode cX0_proofsCall 289 = .ok (.aload_n 0, 1) := by decide +kernel
theorem dX0_proofsCall_290 : decode cX0_proofsCall 290 = .ok (.getfield 43, 3) := by decide +kernel
theorem dX0_proofsCall_293 : decode cX0_proofsCall 293 = .ok (.aload_n 0, 1) := by decide +kernel
theorem dX0_proofsCall_294 : decode cX0_proofsCall 294 = .ok (.iconst 0, 1) := by decide +kernel
theorem dX0_proofsCall_295 : decode cX0_proofsCall 295 = .ok (.invokevirtual 587, 3) := by decide +kernel
theorem dX0_proofsCall_298 : decode cX0_proofsCall 298 = .ok (.aload_n 0, 1) := by decide +kernel
theorem dX0_proofsCall_299 : decode cX0_proofsCall 299 = .ok (.iconst 1, 1) := by decide +kernel
theorem dX0_proofsCall_300 : decode cX0_proofsCall 300 = .ok (.invokevirtual 587, 3) := by decide +kernel
theorem dX0_proofsCall_303 : decode cX0_proofsCall 303 = .ok (.invokevirtual 712, 3) := by decide +kernel
theorem dX0_proofsCall_306 : decode cX0_proofsCall 306 = .ok (.invokestatic 637, 3) := by decide +kernel
theorem dX0_proofsCall_309 : decode cX0_proofsCall 309 = .ok (.lreturn, 1) := by decide +kernel
theorem dX0_proofsCall_310 : decode cX0_proofsCall 310 = .ok (.ldc2_w 535, 3) := by decide +kernel
theorem dX0_proofsCall_313 : decode cX0_proofsCall 313 = .ok (.lreturn, 1) := by decide +kernel
abbrev cX0_rightsCall : ByteArray := prog_1_method_31_code
def yX0_rightsCall : MethodName := ⟨RX0, "rightsCall", "(I)J"⟩
theorem dX0_rightsCall_0 : decode cX0_rightsCall 0 = .ok (.iload_n 1, 1) := by decide +kernel
theorem dX0_rightsCall_1 : decode cX0_rightsCall 1 = .ok (.tableswitch 373 0 15 #[79, 103, 132, 156, 170, 209, 223, 242, 261, 275, 294, 308, 327, 346, 355, 364], 79) := by decide +kernel
theorem dX0_rightsCall_80 : decode cX0_rightsCall 80 = .ok (.aload_n 0, 1) := by decide +kernel
theorem dX0_rightsCall_81 : decode cX0_rightsCall 81 = .ok (.getfield 50, 3) := by decide +kernel
theorem dX0_rightsCall_84 : decode cX0_rightsCall 84 = .ok (.aload_n 0, 1) := by decide +kernel
theorem dX0_rightsCall_85 : decode cX0_rightsCall 85 = .ok (.iconst 0, 1) := by decide +kernel
theorem dX0_rightsCall_86 : decode cX0_rightsCall 86 = .ok (.invokevirtual 587, 3) := by decide +kernel
theorem dX0_rightsCall_89 : decode cX0_rightsCall 89 = .ok (.aload_n 0, 1) := by decide +kernel
theorem dX0_rightsCall_90 : decode cX0_rightsCall 90 = .ok (.iconst 1, 1) := by decide +kernel
theorem dX0_rightsCall_91 : decode cX0_rightsCall 91 = .ok (.invokevirtual 587, 3) := by decide +kernel
theorem dX0_rightsCall_94 : decode cX0_rightsCall 94 = .ok (.aload_n 0, 1) := by decide +kernel
theorem dX0_rightsCall_95 : decode cX0_rightsCall 95 = .ok (.iconst 2, 1) := by decide +kernel
theorem dX0_rightsCall_96 : decode cX0_rightsCall 96 = .ok (.invokevirtual 626, 3) := by decide +kernel
theorem dX0_rightsCall_99 : decode cX0_rightsCall 99 = .ok (.invokevirtual 714, 3) := by decide +kernel
theorem dX0_rightsCall_102 : decode cX0_rightsCall 102 = .ok (.i2l, 1) := by decide +kernel
theorem dX0_rightsCall_103 : decode cX0_rightsCall 103 = .ok (.lreturn, 1) := by decide +kernel
theorem dX0_rightsCall_104 : decode cX0_rightsCall 104 = .ok (.aload_n 0, 1) := by decide +kernel
theorem dX0_rightsCall_105 : decode cX0_rightsCall 105 = .ok (.getfield 50, 3) := by decide +kernel
theorem dX0_rightsCall_108 : decode cX0_rightsCall 108 = .ok (.aload_n 0, 1) := by decide +kernel
theorem dX0_rightsCall_109 : decode cX0_rightsCall 109 = .ok (.iconst 0, 1) := by decide +kernel
theorem dX0_rightsCall_110 : decode cX0_rightsCall 110 = .ok (.invokevirtual 587, 3) := by decide +kernel
theorem dX0_rightsCall_113 : decode cX0_rightsCall 113 = .ok (.aload_n 0, 1) := by decide +kernel
theorem dX0_rightsCall_114 : decode cX0_rightsCall 114 = .ok (.iconst 1, 1) := by decide +kernel
theorem dX0_rightsCall_115 : decode cX0_rightsCall 115 = .ok (.invokevirtual 587, 3) := by decide +kernel
theorem dX0_rightsCall_118 : decode cX0_rightsCall 118 = .ok (.aload_n 0, 1) := by decide +kernel
theorem dX0_rightsCall_119 : decode cX0_rightsCall 119 = .ok (.iconst 2, 1) := by decide +kernel
theorem dX0_rightsCall_120 : decode cX0_rightsCall 120 = .ok (.invokevirtual 587, 3) := by decide +kernel
theorem dX0_rightsCall_123 : decode cX0_rightsCall 123 = .ok (.aload_n 0, 1) := by decide +kernel
theorem dX0_rightsCall_124 : decode cX0_rightsCall 124 = .ok (.iconst 3, 1) := by decide +kernel
theorem dX0_rightsCall_125 : decode cX0_rightsCall 125 = .ok (.invokevirtual 587, 3) := by decide +kernel
theorem dX0_rightsCall_128 : decode cX0_rightsCall 128 = .ok (.invokevirtual 716, 3) := by decide +kernel
theorem dX0_rightsCall_131 : decode cX0_rightsCall 131 = .ok (.i2l, 1) := by decide +kernel
theorem dX0_rightsCall_132 : decode cX0_rightsCall 132 = .ok (.lreturn, 1) := by decide +kernel
theorem dX0_rightsCall_133 : decode cX0_rightsCall 133 = .ok (.aload_n 0, 1) := by decide +kernel
theorem dX0_rightsCall_134 : decode cX0_rightsCall 134 = .ok (.getfield 50, 3) := by decide +kernel
theorem dX0_rightsCall_137 : decode cX0_rightsCall 137 = .ok (.aload_n 0, 1) := by decide +kernel
theorem dX0_rightsCall_138 : decode cX0_rightsCall 138 = .ok (.iconst 0, 1) := by decide +kernel
theorem dX0_rightsCall_139 : decode cX0_rightsCall 139 = .ok (.invokevirtual 587, 3) := by decide +kernel
theorem dX0_rightsCall_142 : decode cX0_rightsCall 142 = .ok (.aload_n 0, 1) := by decide +kernel
theorem dX0_rightsCall_143 : decode cX0_rightsCall 143 = .ok (.iconst 1, 1) := by decide +kernel
theorem dX0_rightsCall_144 : decode cX0_rightsCall 144 = .ok (.invokevirtual 626, 3) := by decide +kernel
theorem dX0_rightsCall_147 : decode cX0_rightsCall 147 = .ok (.aload_n 0, 1) := by decide +kernel
theorem dX0_rightsCall_148 : decode cX0_rightsCall 148 = .ok (.iconst 2, 1) := by decide +kernel
theorem dX0_rightsCall_149 : decode cX0_rightsCall 149 = .ok (.invokevirtual 587, 3) := by decide +kernel
theorem dX0_rightsCall_152 : decode cX0_rightsCall 152 = .ok (.invokevirtual 719, 3) := by decide +kernel
theorem dX0_rightsCall_155 : decode cX0_rightsCall 155 = .ok (.i2l, 1) := by decide +kernel
theorem dX0_rightsCall_156 : decode cX0_rightsCall 156 = .ok (.lreturn, 1) := by decide +kernel
theorem dX0_rightsCall_157 : decode cX0_rightsCall 157 = .ok (.aload_n 0, 1) := by decide +kernel
theorem dX0_rightsCall_158 : decode cX0_rightsCall 158 = .ok (.getfield 50, 3) := by decide +kernel
theorem dX0_rightsCall_161 : decode cX0_rightsCall 161 = .ok (.aload_n 0, 1) := by decide +kernel
theorem dX0_rightsCall_162 : decode cX0_rightsCall 162 = .ok (.iconst 0, 1) := by decide +kernel
theorem dX0_rightsCall_163 : decode cX0_rightsCall 163 = .ok (.invokevirtual 587, 3) := by decide +kernel
theorem dX0_rightsCall_166 : decode cX0_rightsCall 166 = .ok (.invokevirtual 722, 3) := by decide +kernel
theorem dX0_rightsCall_169 : decode cX0_rightsCall 169 = .ok (.i2l, 1) := by decide +kernel
theorem dX0_rightsCall_170 : decode cX0_rightsCall 170 = .ok (.lreturn, 1) := by decide +kernel
theorem dX0_rightsCall_171 : decode cX0_rightsCall 171 = .ok (.aload_n 0, 1) := by decide +kernel
theorem dX0_rightsCall_172 : decode cX0_rightsCall 172 = .ok (.getfield 50, 3) := by decide +kernel
theorem dX0_rightsCall_175 : decode cX0_rightsCall 175 = .ok (.aload_n 0, 1) := by decide +kernel
theorem dX0_rightsCall_176 : decode cX0_rightsCall 176 = .ok (.iconst 0, 1) := by decide +kernel
theorem dX0_rightsCall_177 : decode cX0_rightsCall 177 = .ok (.invokevirtual 587, 3) := by decide +kernel
theorem dX0_rightsCall_180 : decode cX0_rightsCall 180 = .ok (.aload_n 0, 1) := by decide +kernel
theorem dX0_rightsCall_181 : decode cX0_rightsCall 181 = .ok (.iconst 1, 1) := by decide +kernel
theorem dX0_rightsCall_182 : decode cX0_rightsCall 182 = .ok (.invokevirtual 587, 3) := by decide +kernel
theorem dX0_rightsCall_185 : decode cX0_rightsCall 185 = .ok (.aload_n 0, 1) := by decide +kernel
theorem dX0_rightsCall_186 : decode cX0_rightsCall 186 = .ok (.iconst 2, 1) := by decide +kernel
theorem dX0_rightsCall_187 : decode cX0_rightsCall 187 = .ok (.invokevirtual 587, 3) := by decide +kernel
theorem dX0_rightsCall_190 : decode cX0_rightsCall 190 = .ok (.aload_n 0, 1) := by decide +kernel
theorem dX0_rightsCall_191 : decode cX0_rightsCall 191 = .ok (.iconst 3, 1) := by decide +kernel
theorem dX0_rightsCall_192 : decode cX0_rightsCall 192 = .ok (.invokevirtual 587, 3) := by decide +kernel
theorem dX0_rightsCall_195 : decode cX0_rightsCall 195 = .ok (.aload_n 0, 1) := by decide +kernel
theorem dX0_rightsCall_196 : decode cX0_rightsCall 196 = .ok (.iconst 4, 1) := by decide +kernel
theorem dX0_rightsCall_197 : decode cX0_rightsCall 197 = .ok (.invokevirtual 587, 3) := by decide +kernel
theorem dX0_rightsCall_200 : decode cX0_rightsCall 200 = .ok (.aload_n 0, 1) := by decide +kernel
theorem dX0_rightsCall_201 : decode cX0_rightsCall 201 = .ok (.iconst 5, 1) := by decide +kernel
theorem dX0_rightsCall_202 : decode cX0_rightsCall 202 = .ok (.invokevirtual 587, 3) := by decide +kernel
theorem dX0_rightsCall_205 : decode cX0_rightsCall 205 = .ok (.invokevirtual 723, 3) := by decide +kernel
theorem dX0_rightsCall_208 : decode cX0_rightsCall 208 = .ok (.i2l, 1) := by decide +kernel
theorem dX0_rightsCall_209 : decode cX0_rightsCall 209 = .ok (.lreturn, 1) := by decide +kernel
theorem dX0_rightsCall_210 : decode cX0_rightsCall 210 = .ok (.aload_n 0, 1) := by decide +kernel
theorem dX0_rightsCall_211 : decode cX0_rightsCall 211 = .ok (.getfield 50, 3) := by decide +kernel
theorem dX0_rightsCall_214 : decode cX0_rightsCall 214 = .ok (.aload_n 0, 1) := by decide +kernel
theorem dX0_rightsCall_215 : decode cX0_rightsCall 215 = .ok (.iconst 0, 1) := by decide +kernel
theorem dX0_rightsCall_216 : decode cX0_rightsCall 216 = .ok (.invokevirtual 587, 3) := by decide +kernel
theorem dX0_rightsCall_219 : decode cX0_rightsCall 219 = .ok (.invokevirtual 726, 3) := by decide +kernel
theorem dX0_rightsCall_222 : decode cX0_rightsCall 222 = .ok (.i2l, 1) := by decide +kernel
theorem dX0_rightsCall_223 : decode cX0_rightsCall 223 = .ok (.lreturn, 1) := by decide +kernel
theorem dX0_rightsCall_224 : decode cX0_rightsCall 224 = .ok (.aload_n 0, 1) := by decide +kernel
theorem dX0_rightsCall_225 : decode cX0_rightsCall 225 = .ok (.getfield 50, 3) := by decide +kernel
theorem dX0_rightsCall_228 : decode cX0_rightsCall 228 = .ok (.aload_n 0, 1) := by decide +kernel
theorem dX0_rightsCall_229 : decode cX0_rightsCall 229 = .ok (.iconst 0, 1) := by decide +kernel
theorem dX0_rightsCall_230 : decode cX0_rightsCall 230 = .ok (.invokevirtual 587, 3) := by decide +kernel
theorem dX0_rightsCall_233 : decode cX0_rightsCall 233 = .ok (.aload_n 0, 1) := by decide +kernel
theorem dX0_rightsCall_234 : decode cX0_rightsCall 234 = .ok (.iconst 1, 1) := by decide +kernel
theorem dX0_rightsCall_235 : decode cX0_rightsCall 235 = .ok (.invokevirtual 587, 3) := by decide +kernel
theorem dX0_rightsCall_238 : decode cX0_rightsCall 238 = .ok (.invokevirtual 728, 3) := by decide +kernel
theorem dX0_rightsCall_241 : decode cX0_rightsCall 241 = .ok (.i2l, 1) := by decide +kernel
theorem dX0_rightsCall_242 : decode cX0_rightsCall 242 = .ok (.lreturn, 1) := by decide +kernel
theorem dX0_rightsCall_243 : decode cX0_rightsCall 243 = .ok (.aload_n 0, 1) := by decide +kernel
theorem dX0_rightsCall_244 : decode cX0_rightsCall 244 = .ok (.getfield 50, 3) := by decide +kernel
theorem dX0_rightsCall_247 : decode cX0_rightsCall 247 = .ok (.aload_n 0, 1) := by decide +kernel
theorem dX0_rightsCall_248 : decode cX0_rightsCall 248 = .ok (.iconst 0, 1) := by decide +kernel
theorem dX0_rightsCall_249 : decode cX0_rightsCall 249 = .ok (.invokevirtual 587, 3) := by decide +kernel
theorem dX0_rightsCall_252 : decode cX0_rightsCall 252 = .ok (.aload_n 0, 1) := by decide +kernel
theorem dX0_rightsCall_253 : decode cX0_rightsCall 253 = .ok (.iconst 1, 1) := by decide +kernel
theorem dX0_rightsCall_254 : decode cX0_rightsCall 254 = .ok (.invokevirtual 587, 3) := by decide +kernel
theorem dX0_rightsCall_257 : decode cX0_rightsCall 257 = .ok (.invokevirtual 730, 3) := by decide +kernel
theorem dX0_rightsCall_260 : decode cX0_rightsCall 260 = .ok (.i2l, 1) := by decide +kernel
theorem dX0_rightsCall_261 : decode cX0_rightsCall 261 = .ok (.lreturn, 1) := by decide +kernel
theorem dX0_rightsCall_262 : decode cX0_rightsCall 262 = .ok (.aload_n 0, 1) := by decide +kernel
theorem dX0_rightsCall_263 : decode cX0_rightsCall 263 = .ok (.getfield 50, 3) := by decide +kernel
theorem dX0_rightsCall_266 : decode cX0_rightsCall 266 = .ok (.aload_n 0, 1) := by decide +kernel
theorem dX0_rightsCall_267 : decode cX0_rightsCall 267 = .ok (.iconst 0, 1) := by decide +kernel
theorem dX0_rightsCall_268 : decode cX0_rightsCall 268 = .ok (.invokevirtual 587, 3) := by decide +kernel
theorem dX0_rightsCall_271 : decode cX0_rightsCall 271 = .ok (.invokevirtual 732, 3) := by decide +kernel
theorem dX0_rightsCall_274 : decode cX0_rightsCall 274 = .ok (.i2l, 1) := by decide +kernel
theorem dX0_rightsCall_275 : decode cX0_rightsCall 275 = .ok (.lreturn, 1) := by decide +kernel
theorem dX0_rightsCall_276 : decode cX0_rightsCall 276 = .ok (.aload_n 0, 1) := by decide +kernel
theorem dX0_rightsCall_277 : decode cX0_rightsCall 277 = .ok (.getfield 50, 3) := by decide +kernel
theorem dX0_rightsCall_280 : decode cX0_rightsCall 280 = .ok (.aload_n 0, 1) := by decide +kernel
theorem dX0_rightsCall_281 : decode cX0_rightsCall 281 = .ok (.iconst 0, 1) := by decide +kernel
theorem dX0_rightsCall_282 : decode cX0_rightsCall 282 = .ok (.invokevirtual 587, 3) := by decide +kernel
theorem dX0_rightsCall_285 : decode cX0_rightsCall 285 = .ok (.aload_n 0, 1) := by decide +kernel
theorem dX0_rightsCall_286 : decode cX0_rightsCall 286 = .ok (.iconst 1, 1) := by decide +kernel
theorem dX0_rightsCall_287 : decode cX0_rightsCall 287 = .ok (.invokevirtual 587, 3) := by decide +kernel
theorem dX0_rightsCall_290 : decode cX0_rightsCall 290 = .ok (.invokevirtual 734, 3) := by decide +kernel
theorem dX0_rightsCall_293 : decode cX0_rightsCall 293 = .ok (.i2l, 1) := by decide +kernel
theorem dX0_rightsCall_294 : decode cX0_rightsCall 294 = .ok (.lreturn, 1) := by decide +kernel
theorem dX0_rightsCall_295 : decode cX0_rightsCall 295 = .ok (.aload_n 0, 1) := by decide +kernel
theorem dX0_rightsCall_296 : decode cX0_rightsCall 296 = .ok (.getfield 50, 3) := by decide +kernel
theorem dX0_rightsCall_299 : decode cX0_rightsCall 299 = .ok (.aload_n 0, 1) := by decide +kernel
theorem dX0_rightsCall_300 : decode cX0_rightsCall 300 = .ok (.iconst 0, 1) := by decide +kernel
theorem dX0_rightsCall_301 : decode cX0_rightsCall 301 = .ok (.invokevirtual 587, 3) := by decide +kernel
theorem dX0_rightsCall_304 : decode cX0_rightsCall 304 = .ok (.invokevirtual 736, 3) := by decide +kernel
theorem dX0_rightsCall_307 : decode cX0_rightsCall 307 = .ok (.i2l, 1) := by decide +kernel
theorem dX0_rightsCall_308 : decode cX0_rightsCall 308 = .ok (.lreturn, 1) := by decide +kernel
theorem dX0_rightsCall_309 : decode cX0_rightsCall 309 = .ok (.aload_n 0, 1) := by decide +kernel
theorem dX0_rightsCall_310 : decode cX0_rightsCall 310 = .ok (.getfield 50, 3) := by decide +kernel
theorem dX0_rightsCall_313 : decode cX0_rightsCall 313 = .ok (.aload_n 0, 1) := by decide +kernel
theorem dX0_rightsCall_314 : decode cX0_rightsCall 314 = .ok (.iconst 0, 1) := by decide +kernel
theorem dX0_rightsCall_315 : decode cX0_rightsCall 315 = .ok (.invokevirtual 626, 3) := by decide +kernel
theorem dX0_rightsCall_318 : decode cX0_rightsCall 318 = .ok (.aload_n 0, 1) := by decide +kernel
theorem dX0_rightsCall_319 : decode cX0_rightsCall 319 = .ok (.iconst 1, 1) := by decide +kernel
theorem dX0_rightsCall_320 : decode cX0_rightsCall 320 = .ok (.invokevirtual 587, 3) := by decide +kernel
theorem dX0_rightsCall_323 : decode cX0_rightsCall 323 = .ok (.invokevirtual 738, 3) := by decide +kernel
theorem dX0_rightsCall_326 : decode cX0_rightsCall 326 = .ok (.i2l, 1) := by decide +kernel
theorem dX0_rightsCall_327 : decode cX0_rightsCall 327 = .ok (.lreturn, 1) := by decide +kernel
theorem dX0_rightsCall_328 : decode cX0_rightsCall 328 = .ok (.aload_n 0, 1) := by decide +kernel
theorem dX0_rightsCall_329 : decode cX0_rightsCall 329 = .ok (.getfield 50, 3) := by decide +kernel
theorem dX0_rightsCall_332 : decode cX0_rightsCall 332 = .ok (.aload_n 0, 1) := by decide +kernel
theorem dX0_rightsCall_333 : decode cX0_rightsCall 333 = .ok (.iconst 0, 1) := by decide +kernel
theorem dX0_rightsCall_334 : decode cX0_rightsCall 334 = .ok (.invokevirtual 587, 3) := by decide +kernel
theorem dX0_rightsCall_337 : decode cX0_rightsCall 337 = .ok (.aload_n 0, 1) := by decide +kernel
theorem dX0_rightsCall_338 : decode cX0_rightsCall 338 = .ok (.iconst 1, 1) := by decide +kernel
theorem dX0_rightsCall_339 : decode cX0_rightsCall 339 = .ok (.invokevirtual 587, 3) := by decide +kernel
theorem dX0_rightsCall_342 : decode cX0_rightsCall 342 = .ok (.invokevirtual 741, 3) := by decide +kernel
theorem dX0_rightsCall_345 : decode cX0_rightsCall 345 = .ok (.i2l, 1) := by decide +kernel
theorem dX0_rightsCall_346 : decode cX0_rightsCall 346 = .ok (.lreturn, 1) := by decide +kernel
theorem dX0_rightsCall_347 : decode cX0_rightsCall 347 = .ok (.aload_n 0, 1) := by decide +kernel
theorem dX0_rightsCall_348 : decode cX0_rightsCall 348 = .ok (.getfield 50, 3) := by decide +kernel
theorem dX0_rightsCall_351 : decode cX0_rightsCall 351 = .ok (.invokevirtual 743, 3) := by decide +kernel
theorem dX0_rightsCall_354 : decode cX0_rightsCall 354 = .ok (.i2l, 1) := by decide +kernel
theorem dX0_rightsCall_355 : decode cX0_rightsCall 355 = .ok (.lreturn, 1) := by decide +kernel
theorem dX0_rightsCall_356 : decode cX0_rightsCall 356 = .ok (.aload_n 0, 1) := by decide +kernel
theorem dX0_rightsCall_357 : decode cX0_rightsCall 357 = .ok (.getfield 50, 3) := by decide +kernel
theorem dX0_rightsCall_360 : decode cX0_rightsCall 360 = .ok (.invokevirtual 745, 3) := by decide +kernel
theorem dX0_rightsCall_363 : decode cX0_rightsCall 363 = .ok (.i2l, 1) := by decide +kernel
theorem dX0_rightsCall_364 : decode cX0_rightsCall 364 = .ok (.lreturn, 1) := by decide +kernel
theorem dX0_rightsCall_365 : decode cX0_rightsCall 365 = .ok (.aload_n 0, 1) := by decide +kernel
theorem dX0_rightsCall_366 : decode cX0_rightsCall 366 = .ok (.getfield 50, 3) := by decide +kernel
theorem dX0_rightsCall_369 : decode cX0_rightsCall 369 = .ok (.invokevirtual 747, 3) := by decide +kernel
theorem dX0_rightsCall_372 : decode cX0_rightsCall 372 = .ok (.i2l, 1) := by decide +kernel
theorem dX0_rightsCall_373 : decode cX0_rightsCall 373 = .ok (.lreturn, 1) := by decide +kernel
theorem dX0_rightsCall_374 : decode cX0_rightsCall 374 = .ok (.ldc2_w 535, 3) := by decide +kernel
theorem dX0_rightsCall_377 : decode cX0_rightsCall 377 = .ok (.lreturn, 1) := by decide +kernel
abbrev cX0_classesCall : ByteArray := prog_1_method_32_code
def yX0_classesCall : MethodName := ⟨RX0, "classesCall", "(I)J"⟩
theorem dX0_classesCall_0 : decode cX0_classesCall 0 = .ok (.iload_n 1, 1) := by decide +kernel
theorem dX0_classesCall_1 : decode cX0_classesCall 1 = .ok (.tableswitch 361 0 16 #[83, 92, 101, 125, 139, 153, 172, 191, 200, 219, 238, 257, 271, 285, 304, 323, 347], 83) := by decide +kernel
theorem dX0_classesCall_84 : decode cX0_classesCall 84 = .ok (.aload_n 0, 1) := by decide +kernel
theorem dX0_classesCall_85 : decode cX0_classesCall 85 = .ok (.getfield 57, 3) := by decide +kernel
theorem dX0_classesCall_88 : decode cX0_classesCall 88 = .ok (.invokevirtual 749, 3) := by decide +kernel
theorem dX0_classesCall_91 : decode cX0_classesCall 91 = .ok (.i2l, 1) := by decide +kernel
theorem dX0_classesCall_92 : decode cX0_classesCall 92 = .ok (.lreturn, 1) := by decide +kernel
theorem dX0_classesCall_93 : decode cX0_classesCall 93 = .ok (.aload_n 0, 1) := by decide +kernel
theorem dX0_classesCall_94 : decode cX0_classesCall 94 = .ok (.getfield 57, 3) := by decide +kernel
theorem dX0_classesCall_97 : decode cX0_classesCall 97 = .ok (.invokevirtual 751, 3) := by decide +kernel
theorem dX0_classesCall_100 : decode cX0_classesCall 100 = .ok (.i2l, 1) := by decide +kernel
theorem dX0_classesCall_101 : decode cX0_classesCall 101 = .ok (.lreturn, 1) := by decide +kernel
theorem dX0_classesCall_102 : decode cX0_classesCall 102 = .ok (.aload_n 0, 1) := by decide +kernel
theorem dX0_classesCall_103 : decode cX0_classesCall 103 = .ok (.getfield 57, 3) := by decide +kernel
theorem dX0_classesCall_106 : decode cX0_classesCall 106 = .ok (.aload_n 0, 1) := by decide +kernel
theorem dX0_classesCall_107 : decode cX0_classesCall 107 = .ok (.iconst 0, 1) := by decide +kernel
theorem dX0_classesCall_108 : decode cX0_classesCall 108 = .ok (.invokevirtual 587, 3) := by decide +kernel
theorem dX0_classesCall_111 : decode cX0_classesCall 111 = .ok (.aload_n 0, 1) := by decide +kernel
theorem dX0_classesCall_112 : decode cX0_classesCall 112 = .ok (.iconst 1, 1) := by decide +kernel
theorem dX0_classesCall_113 : decode cX0_classesCall 113 = .ok (.invokevirtual 587, 3) := by decide +kernel
theorem dX0_classesCall_116 : decode cX0_classesCall 116 = .ok (.aload_n 0, 1) := by decide +kernel
theorem dX0_classesCall_117 : decode cX0_classesCall 117 = .ok (.iconst 2, 1) := by decide +kernel
theorem dX0_classesCall_118 : decode cX0_classesCall 118 = .ok (.invokevirtual 587, 3) := by decide +kernel
theorem dX0_classesCall_121 : decode cX0_classesCall 121 = .ok (.invokevirtual 753, 3) := by decide +kernel
theorem dX0_classesCall_124 : decode cX0_classesCall 124 = .ok (.i2l, 1) := by decide +kernel
theorem dX0_classesCall_125 : decode cX0_classesCall 125 = .ok (.lreturn, 1) := by decide +kernel
theorem dX0_classesCall_126 : decode cX0_classesCall 126 = .ok (.aload_n 0, 1) := by decide +kernel
theorem dX0_classesCall_127 : decode cX0_classesCall 127 = .ok (.getfield 57, 3) := by decide +kernel
theorem dX0_classesCall_130 : decode cX0_classesCall 130 = .ok (.aload_n 0, 1) := by decide +kernel
theorem dX0_classesCall_131 : decode cX0_classesCall 131 = .ok (.iconst 0, 1) := by decide +kernel
theorem dX0_classesCall_132 : decode cX0_classesCall 132 = .ok (.invokevirtual 587, 3) := by decide +kernel
theorem dX0_classesCall_135 : decode cX0_classesCall 135 = .ok (.invokevirtual 754, 3) := by decide +kernel
theorem dX0_classesCall_138 : decode cX0_classesCall 138 = .ok (.i2l, 1) := by decide +kernel
theorem dX0_classesCall_139 : decode cX0_classesCall 139 = .ok (.lreturn, 1) := by decide +kernel
theorem dX0_classesCall_140 : decode cX0_classesCall 140 = .ok (.aload_n 0, 1) := by decide +kernel
theorem dX0_classesCall_141 : decode cX0_classesCall 141 = .ok (.getfield 57, 3) := by decide +kernel
theorem dX0_classesCall_144 : decode cX0_classesCall 144 = .ok (.aload_n 0, 1) := by decide +kernel
theorem dX0_classesCall_145 : decode cX0_classesCall 145 = .ok (.iconst 0, 1) := by decide +kernel
theorem dX0_classesCall_146 : decode cX0_classesCall 146 = .ok (.invokevirtual 587, 3) := by decide +kernel
theorem dX0_classesCall_149 : decode cX0_classesCall 149 = .ok (.invokevirtual 756, 3) := by decide +kernel
theorem dX0_classesCall_152 : decode cX0_classesCall 152 = .ok (.i2l, 1) := by decide +kernel
theorem dX0_classesCall_153 : decode cX0_classesCall 153 = .ok (.lreturn, 1) := by decide +kernel
theorem dX0_classesCall_154 : decode cX0_classesCall 154 = .ok (.aload_n 0, 1) := by decide +kernel
theorem dX0_classesCall_155 : decode cX0_classesCall 155 = .ok (.getfield 57, 3) := by decide +kernel
theorem dX0_classesCall_158 : decode cX0_classesCall 158 = .ok (.aload_n 0, 1) := by decide +kernel
theorem dX0_classesCall_159 : decode cX0_classesCall 159 = .ok (.iconst 0, 1) := by decide +kernel
theorem dX0_classesCall_160 : decode cX0_classesCall 160 = .ok (.invokevirtual 587, 3) := by decide +kernel
theorem dX0_classesCall_163 : decode cX0_classesCall 163 = .ok (.aload_n 0, 1) := by decide +kernel
theorem dX0_classesCall_164 : decode cX0_classesCall 164 = .ok (.iconst 1, 1) := by decide +kernel
theorem dX0_classesCall_165 : decode cX0_classesCall 165 = .ok (.invokevirtual 587, 3) := by decide +kernel
theorem dX0_classesCall_168 : decode cX0_classesCall 168 = .ok (.invokevirtual 758, 3) := by decide +kernel
theorem dX0_classesCall_171 : decode cX0_classesCall 171 = .ok (.i2l, 1) := by decide +kernel
theorem dX0_classesCall_172 : decode cX0_classesCall 172 = .ok (.lreturn, 1) := by decide +kernel
theorem dX0_classesCall_173 : decode cX0_classesCall 173 = .ok (.aload_n 0, 1) := by decide +kernel
theorem dX0_classesCall_174 : decode cX0_classesCall 174 = .ok (.getfield 57, 3) := by decide +kernel
theorem dX0_classesCall_177 : decode cX0_classesCall 177 = .ok (.aload_n 0, 1) := by decide +kernel
theorem dX0_classesCall_178 : decode cX0_classesCall 178 = .ok (.iconst 0, 1) := by decide +kernel
theorem dX0_classesCall_179 : decode cX0_classesCall 179 = .ok (.invokevirtual 587, 3) := by decide +kernel
theorem dX0_classesCall_182 : decode cX0_classesCall 182 = .ok (.aload_n 0, 1) := by decide +kernel
theorem dX0_classesCall_183 : decode cX0_classesCall 183 = .ok (.iconst 1, 1) := by decide +kernel
theorem dX0_classesCall_184 : decode cX0_classesCall 184 = .ok (.invokevirtual 587, 3) := by decide +kernel
theorem dX0_classesCall_187 : decode cX0_classesCall 187 = .ok (.invokevirtual 760, 3) := by decide +kernel
theorem dX0_classesCall_190 : decode cX0_classesCall 190 = .ok (.i2l, 1) := by decide +kernel
theorem dX0_classesCall_191 : decode cX0_classesCall 191 = .ok (.lreturn, 1) := by decide +kernel
theorem dX0_classesCall_192 : decode cX0_classesCall 192 = .ok (.aload_n 0, 1) := by decide +kernel
theorem dX0_classesCall_193 : decode cX0_classesCall 193 = .ok (.getfield 57, 3) := by decide +kernel
theorem dX0_classesCall_196 : decode cX0_classesCall 196 = .ok (.invokevirtual 761, 3) := by decide +kernel
theorem dX0_classesCall_199 : decode cX0_classesCall 199 = .ok (.i2l, 1) := by decide +kernel
theorem dX0_classesCall_200 : decode cX0_classesCall 200 = .ok (.lreturn, 1) := by decide +kernel
theorem dX0_classesCall_201 : decode cX0_classesCall 201 = .ok (.aload_n 0, 1) := by decide +kernel
theorem dX0_classesCall_202 : decode cX0_classesCall 202 = .ok (.getfield 57, 3) := by decide +kernel
theorem dX0_classesCall_205 : decode cX0_classesCall 205 = .ok (.aload_n 0, 1) := by decide +kernel
theorem dX0_classesCall_206 : decode cX0_classesCall 206 = .ok (.iconst 0, 1) := by decide +kernel
theorem dX0_classesCall_207 : decode cX0_classesCall 207 = .ok (.invokevirtual 587, 3) := by decide +kernel
theorem dX0_classesCall_210 : decode cX0_classesCall 210 = .ok (.aload_n 0, 1) := by decide +kernel
theorem dX0_classesCall_211 : decode cX0_classesCall 211 = .ok (.iconst 1, 1) := by decide +kernel
theorem dX0_classesCall_212 : decode cX0_classesCall 212 = .ok (.invokevirtual 587, 3) := by decide +kernel
theorem dX0_classesCall_215 : decode cX0_classesCall 215 = .ok (.invokevirtual 763, 3) := by decide +kernel
theorem dX0_classesCall_218 : decode cX0_classesCall 218 = .ok (.i2l, 1) := by decide +kernel
theorem dX0_classesCall_219 : decode cX0_classesCall 219 = .ok (.lreturn, 1) := by decide +kernel
theorem dX0_classesCall_220 : decode cX0_classesCall 220 = .ok (.aload_n 0, 1) := by decide +kernel
theorem dX0_classesCall_221 : decode cX0_classesCall 221 = .ok (.getfield 57, 3) := by decide +kernel
theorem dX0_classesCall_224 : decode cX0_classesCall 224 = .ok (.aload_n 0, 1) := by decide +kernel
theorem dX0_classesCall_225 : decode cX0_classesCall 225 = .ok (.iconst 0, 1) := by decide +kernel
theorem dX0_classesCall_226 : decode cX0_classesCall 226 = .ok (.invokevirtual 587, 3) := by decide +kernel
theorem dX0_classesCall_229 : decode cX0_classesCall 229 = .ok (.aload_n 0, 1) := by decide +kernel
theorem dX0_classesCall_230 : decode cX0_classesCall 230 = .ok (.iconst 1, 1) := by decide +kernel
theorem dX0_classesCall_231 : decode cX0_classesCall 231 = .ok (.invokevirtual 587, 3) := by decide +kernel
theorem dX0_classesCall_234 : decode cX0_classesCall 234 = .ok (.invokevirtual 765, 3) := by decide +kernel
theorem dX0_classesCall_237 : decode cX0_classesCall 237 = .ok (.i2l, 1) := by decide +kernel
theorem dX0_classesCall_238 : decode cX0_classesCall 238 = .ok (.lreturn, 1) := by decide +kernel
theorem dX0_classesCall_239 : decode cX0_classesCall 239 = .ok (.aload_n 0, 1) := by decide +kernel
theorem dX0_classesCall_240 : decode cX0_classesCall 240 = .ok (.getfield 57, 3) := by decide +kernel
theorem dX0_classesCall_243 : decode cX0_classesCall 243 = .ok (.aload_n 0, 1) := by decide +kernel
theorem dX0_classesCall_244 : decode cX0_classesCall 244 = .ok (.iconst 0, 1) := by decide +kernel
theorem dX0_classesCall_245 : decode cX0_classesCall 245 = .ok (.invokevirtual 587, 3) := by decide +kernel
theorem dX0_classesCall_248 : decode cX0_classesCall 248 = .ok (.aload_n 0, 1) := by decide +kernel
theorem dX0_classesCall_249 : decode cX0_classesCall 249 = .ok (.iconst 1, 1) := by decide +kernel
theorem dX0_classesCall_250 : decode cX0_classesCall 250 = .ok (.invokevirtual 587, 3) := by decide +kernel
theorem dX0_classesCall_253 : decode cX0_classesCall 253 = .ok (.invokevirtual 767, 3) := by decide +kernel
theorem dX0_classesCall_256 : decode cX0_classesCall 256 = .ok (.i2l, 1) := by decide +kernel
theorem dX0_classesCall_257 : decode cX0_classesCall 257 = .ok (.lreturn, 1) := by decide +kernel
theorem dX0_classesCall_258 : decode cX0_classesCall 258 = .ok (.aload_n 0, 1) := by decide +kernel
theorem dX0_classesCall_259 : decode cX0_classesCall 259 = .ok (.getfield 57, 3) := by decide +kernel
theorem dX0_classesCall_262 : decode cX0_classesCall 262 = .ok (.aload_n 0, 1) := by decide +kernel
theorem dX0_classesCall_263 : decode cX0_classesCall 263 = .ok (.iconst 0, 1) := by decide +kernel
theorem dX0_classesCall_264 : decode cX0_classesCall 264 = .ok (.invokevirtual 587, 3) := by decide +kernel
theorem dX0_classesCall_267 : decode cX0_classesCall 267 = .ok (.invokevirtual 769, 3) := by decide +kernel
theorem dX0_classesCall_270 : decode cX0_classesCall 270 = .ok (.i2l, 1) := by decide +kernel
theorem dX0_classesCall_271 : decode cX0_classesCall 271 = .ok (.lreturn, 1) := by decide +kernel
theorem dX0_classesCall_272 : decode cX0_classesCall 272 = .ok (.aload_n 0, 1) := by decide +kernel
theorem dX0_classesCall_273 : decode cX0_classesCall 273 = .ok (.getfield 57, 3) := by decide +kernel
theorem dX0_classesCall_276 : decode cX0_classesCall 276 = .ok (.aload_n 0, 1) := by decide +kernel
theorem dX0_classesCall_277 : decode cX0_classesCall 277 = .ok (.iconst 0, 1) := by decide +kernel
theorem dX0_classesCall_278 : decode cX0_classesCall 278 = .ok (.invokevirtual 587, 3) := by decide +kernel
theorem dX0_classesCall_281 : decode cX0_classesCall 281 = .ok (.invokevirtual 771, 3) := by decide +kernel
theorem dX0_classesCall_284 : decode cX0_classesCall 284 = .ok (.i2l, 1) := by decide +kernel
theorem dX0_classesCall_285 : decode cX0_classesCall 285 = .ok (.lreturn, 1) := by decide +kernel
theorem dX0_classesCall_286 : decode cX0_classesCall 286 = .ok (.aload_n 0, 1) := by decide +kernel
theorem dX0_classesCall_287 : decode cX0_classesCall 287 = .ok (.getfield 57, 3) := by decide +kernel
theorem dX0_classesCall_290 : decode cX0_classesCall 290 = .ok (.aload_n 0, 1) := by decide +kernel
theorem dX0_classesCall_291 : decode cX0_classesCall 291 = .ok (.iconst 0, 1) := by decide +kernel
theorem dX0_classesCall_292 : decode cX0_classesCall 292 = .ok (.invokevirtual 587, 3) := by decide +kernel
theorem dX0_classesCall_295 : decode cX0_classesCall 295 = .ok (.aload_n 0, 1) := by decide +kernel
theorem dX0_classesCall_296 : decode cX0_classesCall 296 = .ok (.iconst 1, 1) := by decide +kernel
theorem dX0_classesCall_297 : decode cX0_classesCall 297 = .ok (.invokevirtual 587, 3) := by decide +kernel
theorem dX0_classesCall_300 : decode cX0_classesCall 300 = .ok (.invokevirtual 773, 3) := by decide +kernel
theorem dX0_classesCall_303 : decode cX0_classesCall 303 = .ok (.i2l, 1) := by decide +kernel
theorem dX0_classesCall_304 : decode cX0_classesCall 304 = .ok (.lreturn, 1) := by decide +kernel
theorem dX0_classesCall_305 : decode cX0_classesCall 305 = .ok (.aload_n 0, 1) := by decide +kernel
theorem dX0_classesCall_306 : decode cX0_classesCall 306 = .ok (.getfield 57, 3) := by decide +kernel
theorem dX0_classesCall_309 : decode cX0_classesCall 309 = .ok (.aload_n 0, 1) := by decide +kernel
theorem dX0_classesCall_310 : decode cX0_classesCall 310 = .ok (.iconst 0, 1) := by decide +kernel
theorem dX0_classesCall_311 : decode cX0_classesCall 311 = .ok (.invokevirtual 587, 3) := by decide +kernel
theorem dX0_classesCall_314 : decode cX0_classesCall 314 = .ok (.aload_n 0, 1) := by decide +kernel
theorem dX0_classesCall_315 : decode cX0_classesCall 315 = .ok (.iconst 1, 1) := by decide +kernel
theorem dX0_classesCall_316 : decode cX0_classesCall 316 = .ok (.invokevirtual 587, 3) := by decide +kernel
theorem dX0_classesCall_319 : decode cX0_classesCall 319 = .ok (.invokevirtual 775, 3) := by decide +kernel
theorem dX0_classesCall_322 : decode cX0_classesCall 322 = .ok (.i2l, 1) := by decide +kernel
theorem dX0_classesCall_323 : decode cX0_classesCall 323 = .ok (.lreturn, 1) := by decide +kernel
theorem dX0_classesCall_324 : decode cX0_classesCall 324 = .ok (.aload_n 0, 1) := by decide +kernel
theorem dX0_classesCall_325 : decode cX0_classesCall 325 = .ok (.getfield 57, 3) := by decide +kernel
theorem dX0_classesCall_328 : decode cX0_classesCall 328 = .ok (.aload_n 0, 1) := by decide +kernel
theorem dX0_classesCall_329 : decode cX0_classesCall 329 = .ok (.iconst 0, 1) := by decide +kernel
theorem dX0_classesCall_330 : decode cX0_classesCall 330 = .ok (.invokevirtual 587, 3) := by decide +kernel
theorem dX0_classesCall_333 : decode cX0_classesCall 333 = .ok (.aload_n 0, 1) := by decide +kernel
theorem dX0_classesCall_334 : decode cX0_classesCall 334 = .ok (.iconst 1, 1) := by decide +kernel
theorem dX0_classesCall_335 : decode cX0_classesCall 335 = .ok (.invokevirtual 587, 3) := by decide +kernel
theorem dX0_classesCall_338 : decode cX0_classesCall 338 = .ok (.aload_n 0, 1) := by decide +kernel
theorem dX0_classesCall_339 : decode cX0_classesCall 339 = .ok (.iconst 2, 1) := by decide +kernel
theorem dX0_classesCall_340 : decode cX0_classesCall 340 = .ok (.invokevirtual 587, 3) := by decide +kernel
theorem dX0_classesCall_343 : decode cX0_classesCall 343 = .ok (.invokevirtual 777, 3) := by decide +kernel
theorem dX0_classesCall_346 : decode cX0_classesCall 346 = .ok (.i2l, 1) := by decide +kernel
theorem dX0_classesCall_347 : decode cX0_classesCall 347 = .ok (.lreturn, 1) := by decide +kernel
theorem dX0_classesCall_348 : decode cX0_classesCall 348 = .ok (.aload_n 0, 1) := by decide +kernel
theorem dX0_classesCall_349 : decode cX0_classesCall 349 = .ok (.getfield 57, 3) := by decide +kernel
theorem dX0_classesCall_352 : decode cX0_classesCall 352 = .ok (.aload_n 0, 1) := by decide +kernel
theorem dX0_classesCall_353 : decode cX0_classesCall 353 = .ok (.iconst 0, 1) := by decide +kernel
theorem dX0_classesCall_354 : decode cX0_classesCall 354 = .ok (.invokevirtual 587, 3) := by decide +kernel
theorem dX0_classesCall_357 : decode cX0_classesCall 357 = .ok (.invokevirtual 779, 3) := by decide +kernel
theorem dX0_classesCall_360 : decode cX0_classesCall 360 = .ok (.i2l, 1) := by decide +kernel
theorem dX0_classesCall_361 : decode cX0_classesCall 361 = .ok (.lreturn, 1) := by decide +kernel
theorem dX0_classesCall_362 : decode cX0_classesCall 362 = .ok (.ldc2_w 535, 3) := by decide +kernel
theorem dX0_classesCall_365 : decode cX0_classesCall 365 = .ok (.lreturn, 1) := by decide +kernel
abbrev cX0_facetsCall : ByteArray := prog_1_method_33_code
def yX0_facetsCall : MethodName := ⟨RX0, "facetsCall", "(I)J"⟩
theorem dX0_facetsCall_0 : decode cX0_facetsCall 0 = .ok (.iload_n 1, 1) := by decide +kernel
theorem dX0_facetsCall_1 : decode cX0_facetsCall 1 = .ok (.tableswitch 281 0 11 #[63, 87, 111, 130, 154, 163, 177, 196, 215, 239, 263, 272], 63) := by decide +kernel
theorem dX0_facetsCall_64 : decode cX0_facetsCall 64 = .ok (.aload_n 0, 1) := by decide +kernel
theorem dX0_facetsCall_65 : decode cX0_facetsCall 65 = .ok (.getfield 64, 3) := by decide +kernel
theorem dX0_facetsCall_68 : decode cX0_facetsCall 68 = .ok (.aload_n 0, 1) := by decide +kernel
theorem dX0_facetsCall_69 : decode cX0_facetsCall 69 = .ok (.iconst 0, 1) := by decide +kernel
theorem dX0_facetsCall_70 : decode cX0_facetsCall 70 = .ok (.invokevirtual 587, 3) := by decide +kernel
theorem dX0_facetsCall_73 : decode cX0_facetsCall 73 = .ok (.aload_n 0, 1) := by decide +kernel
theorem dX0_facetsCall_74 : decode cX0_facetsCall 74 = .ok (.iconst 1, 1) := by decide +kernel
theorem dX0_facetsCall_75 : decode cX0_facetsCall 75 = .ok (.invokevirtual 587, 3) := by decide +kernel
theorem dX0_facetsCall_78 : decode cX0_facetsCall 78 = .ok (.aload_n 0, 1) := by decide +kernel
theorem dX0_facetsCall_79 : decode cX0_facetsCall 79 = .ok (.iconst 2, 1) := by decide +kernel
theorem dX0_facetsCall_80 : decode cX0_facetsCall 80 = .ok (.invokevirtual 587, 3) := by decide +kernel
theorem dX0_facetsCall_83 : decode cX0_facetsCall 83 = .ok (.invokevirtual 781, 3) := by decide +kernel
theorem dX0_facetsCall_86 : decode cX0_facetsCall 86 = .ok (.i2l, 1) := by decide +kernel
theorem dX0_facetsCall_87 : decode cX0_facetsCall 87 = .ok (.lreturn, 1) := by decide +kernel
theorem dX0_facetsCall_88 : decode cX0_facetsCall 88 = .ok (.aload_n 0, 1) := by decide +kernel
theorem dX0_facetsCall_89 : decode cX0_facetsCall 89 = .ok (.getfield 64, 3) := by decide +kernel
theorem dX0_facetsCall_92 : decode cX0_facetsCall 92 = .ok (.aload_n 0, 1) := by decide +kernel
theorem dX0_facetsCall_93 : decode cX0_facetsCall 93 = .ok (.iconst 0, 1) := by decide +kernel
theorem dX0_facetsCall_94 : decode cX0_facetsCall 94 = .ok (.invokevirtual 587, 3) := by decide +kernel
theorem dX0_facetsCall_97 : decode cX0_facetsCall 97 = .ok (.aload_n 0, 1) := by decide +kernel
theorem dX0_facetsCall_98 : decode cX0_facetsCall 98 = .ok (.iconst 1, 1) := by decide +kernel
theorem dX0_facetsCall_99 : decode cX0_facetsCall 99 = .ok (.invokevirtual 587, 3) := by decide +kernel
theorem dX0_facetsCall_102 : decode cX0_facetsCall 102 = .ok (.aload_n 0, 1) := by decide +kernel
theorem dX0_facetsCall_103 : decode cX0_facetsCall 103 = .ok (.iconst 2, 1) := by decide +kernel
theorem dX0_facetsCall_104 : decode cX0_facetsCall 104 = .ok (.invokevirtual 587, 3) := by decide +kernel
theorem dX0_facetsCall_107 : decode cX0_facetsCall 107 = .ok (.invokevirtual 782, 3) := by decide +kernel
theorem dX0_facetsCall_110 : decode cX0_facetsCall 110 = .ok (.i2l, 1) := by decide +kernel
theorem dX0_facetsCall_111 : decode cX0_facetsCall 111 = .ok (.lreturn, 1) := by decide +kernel
theorem dX0_facetsCall_112 : decode cX0_facetsCall 112 = .ok (.aload_n 0, 1) := by decide +kernel
theorem dX0_facetsCall_113 : decode cX0_facetsCall 113 = .ok (.getfield 64, 3) := by decide +kernel
theorem dX0_facetsCall_116 : decode cX0_facetsCall 116 = .ok (.aload_n 0, 1) := by decide +kernel
theorem dX0_facetsCall_117 : decode cX0_facetsCall 117 = .ok (.iconst 0, 1) := by decide +kernel
theorem dX0_facetsCall_118 : decode cX0_facetsCall 118 = .ok (.invokevirtual 587, 3) := by decide +kernel
theorem dX0_facetsCall_121 : decode cX0_facetsCall 121 = .ok (.aload_n 0, 1) := by decide +kernel
theorem dX0_facetsCall_122 : decode cX0_facetsCall 122 = .ok (.iconst 1, 1) := by decide +kernel
theorem dX0_facetsCall_123 : decode cX0_facetsCall 123 = .ok (.invokevirtual 587, 3) := by decide +kernel
theorem dX0_facetsCall_126 : decode cX0_facetsCall 126 = .ok (.invokevirtual 783, 3) := by decide +kernel
theorem dX0_facetsCall_129 : decode cX0_facetsCall 129 = .ok (.i2l, 1) := by decide +kernel
theorem dX0_facetsCall_130 : decode cX0_facetsCall 130 = .ok (.lreturn, 1) := by decide +kernel
theorem dX0_facetsCall_131 : decode cX0_facetsCall 131 = .ok (.aload_n 0, 1) := by decide +kernel
theorem dX0_facetsCall_132 : decode cX0_facetsCall 132 = .ok (.getfield 64, 3) := by decide +kernel
theorem dX0_facetsCall_135 : decode cX0_facetsCall 135 = .ok (.aload_n 0, 1) := by decide +kernel
theorem dX0_facetsCall_136 : decode cX0_facetsCall 136 = .ok (.iconst 0, 1) := by decide +kernel
theorem dX0_facetsCall_137 : decode cX0_facetsCall 137 = .ok (.invokevirtual 587, 3) := by decide +kernel
theorem dX0_facetsCall_140 : decode cX0_facetsCall 140 = .ok (.aload_n 0, 1) := by decide +kernel
theorem dX0_facetsCall_141 : decode cX0_facetsCall 141 = .ok (.iconst 1, 1) := by decide +kernel
theorem dX0_facetsCall_142 : decode cX0_facetsCall 142 = .ok (.invokevirtual 587, 3) := by decide +kernel
theorem dX0_facetsCall_145 : decode cX0_facetsCall 145 = .ok (.aload_n 0, 1) := by decide +kernel
theorem dX0_facetsCall_146 : decode cX0_facetsCall 146 = .ok (.iconst 2, 1) := by decide +kernel
theorem dX0_facetsCall_147 : decode cX0_facetsCall 147 = .ok (.invokevirtual 626, 3) := by decide +kernel
theorem dX0_facetsCall_150 : decode cX0_facetsCall 150 = .ok (.invokevirtual 785, 3) := by decide +kernel
theorem dX0_facetsCall_153 : decode cX0_facetsCall 153 = .ok (.i2l, 1) := by decide +kernel
theorem dX0_facetsCall_154 : decode cX0_facetsCall 154 = .ok (.lreturn, 1) := by decide +kernel
theorem dX0_facetsCall_155 : decode cX0_facetsCall 155 = .ok (.aload_n 0, 1) := by decide +kernel
theorem dX0_facetsCall_156 : decode cX0_facetsCall 156 = .ok (.getfield 64, 3) := by decide +kernel
theorem dX0_facetsCall_159 : decode cX0_facetsCall 159 = .ok (.invokevirtual 787, 3) := by decide +kernel
theorem dX0_facetsCall_162 : decode cX0_facetsCall 162 = .ok (.i2l, 1) := by decide +kernel
theorem dX0_facetsCall_163 : decode cX0_facetsCall 163 = .ok (.lreturn, 1) := by decide +kernel
theorem dX0_facetsCall_164 : decode cX0_facetsCall 164 = .ok (.aload_n 0, 1) := by decide +kernel
theorem dX0_facetsCall_165 : decode cX0_facetsCall 165 = .ok (.getfield 64, 3) := by decide +kernel
theorem dX0_facetsCall_168 : decode cX0_facetsCall 168 = .ok (.aload_n 0, 1) := by decide +kernel
theorem dX0_facetsCall_169 : decode cX0_facetsCall 169 = .ok (.iconst 0, 1) := by decide +kernel
theorem dX0_facetsCall_170 : decode cX0_facetsCall 170 = .ok (.invokevirtual 587, 3) := by decide +kernel
theorem dX0_facetsCall_173 : decode cX0_facetsCall 173 = .ok (.invokevirtual 789, 3) := by decide +kernel
theorem dX0_facetsCall_176 : decode cX0_facetsCall 176 = .ok (.i2l, 1) := by decide +kernel
theorem dX0_facetsCall_177 : decode cX0_facetsCall 177 = .ok (.lreturn, 1) := by decide +kernel
theorem dX0_facetsCall_178 : decode cX0_facetsCall 178 = .ok (.aload_n 0, 1) := by decide +kernel
theorem dX0_facetsCall_179 : decode cX0_facetsCall 179 = .ok (.getfield 64, 3) := by decide +kernel
theorem dX0_facetsCall_182 : decode cX0_facetsCall 182 = .ok (.aload_n 0, 1) := by decide +kernel
theorem dX0_facetsCall_183 : decode cX0_facetsCall 183 = .ok (.iconst 0, 1) := by decide +kernel
theorem dX0_facetsCall_184 : decode cX0_facetsCall 184 = .ok (.invokevirtual 587, 3) := by decide +kernel
theorem dX0_facetsCall_187 : decode cX0_facetsCall 187 = .ok (.aload_n 0, 1) := by decide +kernel
theorem dX0_facetsCall_188 : decode cX0_facetsCall 188 = .ok (.iconst 1, 1) := by decide +kernel
theorem dX0_facetsCall_189 : decode cX0_facetsCall 189 = .ok (.invokevirtual 587, 3) := by decide +kernel
theorem dX0_facetsCall_192 : decode cX0_facetsCall 192 = .ok (.invokevirtual 791, 3) := by decide +kernel
theorem dX0_facetsCall_195 : decode cX0_facetsCall 195 = .ok (.i2l, 1) := by decide +kernel
theorem dX0_facetsCall_196 : decode cX0_facetsCall 196 = .ok (.lreturn, 1) := by decide +kernel
theorem dX0_facetsCall_197 : decode cX0_facetsCall 197 = .ok (.aload_n 0, 1) := by decide +kernel
theorem dX0_facetsCall_198 : decode cX0_facetsCall 198 = .ok (.getfield 64, 3) := by decide +kernel
theorem dX0_facetsCall_201 : decode cX0_facetsCall 201 = .ok (.aload_n 0, 1) := by decide +kernel
theorem dX0_facetsCall_202 : decode cX0_facetsCall 202 = .ok (.iconst 0, 1) := by decide +kernel
theorem dX0_facetsCall_203 : decode cX0_facetsCall 203 = .ok (.invokevirtual 587, 3) := by decide +kernel
theorem dX0_facetsCall_206 : decode cX0_facetsCall 206 = .ok (.aload_n 0, 1) := by decide +kernel
theorem dX0_facetsCall_207 : decode cX0_facetsCall 207 = .ok (.iconst 1, 1) := by decide +kernel
theorem dX0_facetsCall_208 : decode cX0_facetsCall 208 = .ok (.invokevirtual 587, 3) := by decide +kernel
theorem dX0_facetsCall_211 : decode cX0_facetsCall 211 = .ok (.invokevirtual 793, 3) := by decide +kernel
theorem dX0_facetsCall_214 : decode cX0_facetsCall 214 = .ok (.i2l, 1) := by decide +kernel
theorem dX0_facetsCall_215 : decode cX0_facetsCall 215 = .ok (.lreturn, 1) := by decide +kernel
theorem dX0_facetsCall_216 : decode cX0_facetsCall 216 = .ok (.aload_n 0, 1) := by decide +kernel
theorem dX0_facetsCall_217 : decode cX0_facetsCall 217 = .ok (.getfield 64, 3) := by decide +kernel
theorem dX0_facetsCall_220 : decode cX0_facetsCall 220 = .ok (.aload_n 0, 1) := by decide +kernel
theorem dX0_facetsCall_221 : decode cX0_facetsCall 221 = .ok (.iconst 0, 1) := by decide +kernel
theorem dX0_facetsCall_222 : decode cX0_facetsCall 222 = .ok (.invokevirtual 587, 3) := by decide +kernel
theorem dX0_facetsCall_225 : decode cX0_facetsCall 225 = .ok (.aload_n 0, 1) := by decide +kernel
theorem dX0_facetsCall_226 : decode cX0_facetsCall 226 = .ok (.iconst 1, 1) := by decide +kernel
theorem dX0_facetsCall_227 : decode cX0_facetsCall 227 = .ok (.invokevirtual 587, 3) := by decide +kernel
theorem dX0_facetsCall_230 : decode cX0_facetsCall 230 = .ok (.aload_n 0, 1) := by decide +kernel
theorem dX0_facetsCall_231 : decode cX0_facetsCall 231 = .ok (.iconst 2, 1) := by decide +kernel
theorem dX0_facetsCall_232 : decode cX0_facetsCall 232 = .ok (.invokevirtual 587, 3) := by decide +kernel
theorem dX0_facetsCall_235 : decode cX0_facetsCall 235 = .ok (.invokevirtual 795, 3) := by decide +kernel
theorem dX0_facetsCall_238 : decode cX0_facetsCall 238 = .ok (.i2l, 1) := by decide +kernel
theorem dX0_facetsCall_239 : decode cX0_facetsCall 239 = .ok (.lreturn, 1) := by decide +kernel
theorem dX0_facetsCall_240 : decode cX0_facetsCall 240 = .ok (.aload_n 0, 1) := by decide +kernel
theorem dX0_facetsCall_241 : decode cX0_facetsCall 241 = .ok (.getfield 64, 3) := by decide +kernel
theorem dX0_facetsCall_244 : decode cX0_facetsCall 244 = .ok (.aload_n 0, 1) := by decide +kernel
theorem dX0_facetsCall_245 : decode cX0_facetsCall 245 = .ok (.iconst 0, 1) := by decide +kernel
theorem dX0_facetsCall_246 : decode cX0_facetsCall 246 = .ok (.invokevirtual 587, 3) := by decide +kernel
theorem dX0_facetsCall_249 : decode cX0_facetsCall 249 = .ok (.aload_n 0, 1) := by decide +kernel
theorem dX0_facetsCall_250 : decode cX0_facetsCall 250 = .ok (.iconst 1, 1) := by decide +kernel
theorem dX0_facetsCall_251 : decode cX0_facetsCall 251 = .ok (.invokevirtual 587, 3) := by decide +kernel
theorem dX0_facetsCall_254 : decode cX0_facetsCall 254 = .ok (.aload_n 0, 1) := by decide +kernel
theorem dX0_facetsCall_255 : decode cX0_facetsCall 255 = .ok (.iconst 2, 1) := by decide +kernel
theorem dX0_facetsCall_256 : decode cX0_facetsCall 256 = .ok (.invokevirtual 587, 3) := by decide +kernel
theorem dX0_facetsCall_259 : decode cX0_facetsCall 259 = .ok (.invokevirtual 797, 3) := by decide +kernel
theorem dX0_facetsCall_262 : decode cX0_facetsCall 262 = .ok (.i2l, 1) := by decide +kernel
theorem dX0_facetsCall_263 : decode cX0_facetsCall 263 = .ok (.lreturn, 1) := by decide +kernel
theorem dX0_facetsCall_264 : decode cX0_facetsCall 264 = .ok (.aload_n 0, 1) := by decide +kernel
theorem dX0_facetsCall_265 : decode cX0_facetsCall 265 = .ok (.getfield 64, 3) := by decide +kernel
theorem dX0_facetsCall_268 : decode cX0_facetsCall 268 = .ok (.invokevirtual 799, 3) := by decide +kernel
theorem dX0_facetsCall_271 : decode cX0_facetsCall 271 = .ok (.i2l, 1) := by decide +kernel
theorem dX0_facetsCall_272 : decode cX0_facetsCall 272 = .ok (.lreturn, 1) := by decide +kernel
theorem dX0_facetsCall_273 : decode cX0_facetsCall 273 = .ok (.aload_n 0, 1) := by decide +kernel
theorem dX0_facetsCall_274 : decode cX0_facetsCall 274 = .ok (.getfield 64, 3) := by decide +kernel
theorem dX0_facetsCall_277 : decode cX0_facetsCall 277 = .ok (.invokevirtual 801, 3) := by decide +kernel
theorem dX0_facetsCall_280 : decode cX0_facetsCall 280 = .ok (.i2l, 1) := by decide +kernel
theorem dX0_facetsCall_281 : decode cX0_facetsCall 281 = .ok (.lreturn, 1) := by decide +kernel
theorem dX0_facetsCall_282 : decode cX0_facetsCall 282 = .ok (.ldc2_w 535, 3) := by decide +kernel
theorem dX0_facetsCall_285 : decode cX0_facetsCall 285 = .ok (.lreturn, 1) := by decide +kernel
abbrev cX0_tablesCall : ByteArray := prog_1_method_34_code
def yX0_tablesCall : MethodName := ⟨RX0, "tablesCall", "(I)J"⟩
theorem dX0_tablesCall_0 : decode cX0_tablesCall 0 = .ok (.iload_n 1, 1) := by decide +kernel
theorem dX0_tablesCall_1 : decode cX0_tablesCall 1 = .ok (.tableswitch 337 0 13 #[71, 95, 124, 143, 182, 191, 215, 239, 248, 257, 276, 290, 299, 318], 71) := by decide +kernel
theorem dX0_tablesCall_72 : decode cX0_tablesCall 72 = .ok (.aload_n 0, 1) := by decide +kernel
theorem dX0_tablesCall_73 : decode cX0_tablesCall 73 = .ok (.getfield 71, 3) := by decide +kernel
theorem dX0_tablesCall_76 : decode cX0_tablesCall 76 = .ok (.aload_n 0, 1) := by decide +kernel
theorem dX0_tablesCall_77 : decode cX0_tablesCall 77 = .ok (.iconst 0, 1) := by decide +kernel
theorem dX0_tablesCall_78 : decode cX0_tablesCall 78 = .ok (.invokevirtual 587, 3) := by decide +kernel
theorem dX0_tablesCall_81 : decode cX0_tablesCall 81 = .ok (.aload_n 0, 1) := by decide +kernel
theorem dX0_tablesCall_82 : decode cX0_tablesCall 82 = .ok (.iconst 1, 1) := by decide +kernel
theorem dX0_tablesCall_83 : decode cX0_tablesCall 83 = .ok (.invokevirtual 587, 3) := by decide +kernel
theorem dX0_tablesCall_86 : decode cX0_tablesCall 86 = .ok (.aload_n 0, 1) := by decide +kernel
theorem dX0_tablesCall_87 : decode cX0_tablesCall 87 = .ok (.iconst 2, 1) := by decide +kernel
theorem dX0_tablesCall_88 : decode cX0_tablesCall 88 = .ok (.invokevirtual 626, 3) := by decide +kernel
theorem dX0_tablesCall_91 : decode cX0_tablesCall 91 = .ok (.invokevirtual 802, 3) := by decide +kernel
theorem dX0_tablesCall_94 : decode cX0_tablesCall 94 = .ok (.i2l, 1) := by decide +kernel
theorem dX0_tablesCall_95 : decode cX0_tablesCall 95 = .ok (.lreturn, 1) := by decide +kernel
theorem dX0_tablesCall_96 : decode cX0_tablesCall 96 = .ok (.aload_n 0, 1) := by decide +kernel
theorem dX0_tablesCall_97 : decode cX0_tablesCall 97 = .ok (.getfield 71, 3) := by decide +kernel
theorem dX0_tablesCall_100 : decode cX0_tablesCall 100 = .ok (.aload_n 0, 1) := by decide +kernel
theorem dX0_tablesCall_101 : decode cX0_tablesCall 101 = .ok (.iconst 0, 1) := by decide +kernel
theorem dX0_tablesCall_102 : decode cX0_tablesCall 102 = .ok (.invokevirtual 587, 3) := by decide +kernel
theorem dX0_tablesCall_105 : decode cX0_tablesCall 105 = .ok (.aload_n 0, 1) := by decide +kernel
theorem dX0_tablesCall_106 : decode cX0_tablesCall 106 = .ok (.iconst 1, 1) := by decide +kernel
theorem dX0_tablesCall_107 : decode cX0_tablesCall 107 = .ok (.invokevirtual 587, 3) := by decide +kernel
theorem dX0_tablesCall_110 : decode cX0_tablesCall 110 = .ok (.aload_n 0, 1) := by decide +kernel
theorem dX0_tablesCall_111 : decode cX0_tablesCall 111 = .ok (.iconst 2, 1) := by decide +kernel
theorem dX0_tablesCall_112 : decode cX0_tablesCall 112 = .ok (.invokevirtual 587, 3) := by decide +kernel
theorem dX0_tablesCall_115 : decode cX0_tablesCall 115 = .ok (.aload_n 0, 1) := by decide +kernel
theorem dX0_tablesCall_116 : decode cX0_tablesCall 116 = .ok (.iconst 3, 1) := by decide +kernel
theorem dX0_tablesCall_117 : decode cX0_tablesCall 117 = .ok (.invokevirtual 587, 3) := by decide +kernel
theorem dX0_tablesCall_120 : decode cX0_tablesCall 120 = .ok (.invokevirtual 804, 3) := by decide +kernel
theorem dX0_tablesCall_123 : decode cX0_tablesCall 123 = .ok (.i2l, 1) := by decide +kernel
theorem dX0_tablesCall_124 : decode cX0_tablesCall 124 = .ok (.lreturn, 1) := by decide +kernel
theorem dX0_tablesCall_125 : decode cX0_tablesCall 125 = .ok (.aload_n 0, 1) := by decide +kernel
theorem dX0_tablesCall_126 : decode cX0_tablesCall 126 = .ok (.getfield 71, 3) := by decide +kernel
theorem dX0_tablesCall_129 : decode cX0_tablesCall 129 = .ok (.aload_n 0, 1) := by decide +kernel
theorem dX0_tablesCall_130 : decode cX0_tablesCall 130 = .ok (.iconst 0, 1) := by decide +kernel
theorem dX0_tablesCall_131 : decode cX0_tablesCall 131 = .ok (.invokevirtual 587, 3) := by decide +kernel
theorem dX0_tablesCall_134 : decode cX0_tablesCall 134 = .ok (.aload_n 0, 1) := by decide +kernel
theorem dX0_tablesCall_135 : decode cX0_tablesCall 135 = .ok (.iconst 1, 1) := by decide +kernel
theorem dX0_tablesCall_136 : decode cX0_tablesCall 136 = .ok (.invokevirtual 587, 3) := by decide +kernel
theorem dX0_tablesCall_139 : decode cX0_tablesCall 139 = .ok (.invokevirtual 806, 3) := by decide +kernel
theorem dX0_tablesCall_142 : decode cX0_tablesCall 142 = .ok (.i2l, 1) := by decide +kernel
theorem dX0_tablesCall_143 : decode cX0_tablesCall 143 = .ok (.lreturn, 1) := by decide +kernel
theorem dX0_tablesCall_144 : decode cX0_tablesCall 144 = .ok (.aload_n 0, 1) := by decide +kernel
theorem dX0_tablesCall_145 : decode cX0_tablesCall 145 = .ok (.getfield 71, 3) := by decide +kernel
theorem dX0_tablesCall_148 : decode cX0_tablesCall 148 = .ok (.aload_n 0, 1) := by decide +kernel
theorem dX0_tablesCall_149 : decode cX0_tablesCall 149 = .ok (.iconst 0, 1) := by decide +kernel
theorem dX0_tablesCall_150 : decode cX0_tablesCall 150 = .ok (.invokevirtual 587, 3) := by decide +kernel
theorem dX0_tablesCall_153 : decode cX0_tablesCall 153 = .ok (.aload_n 0, 1) := by decide +kernel
theorem dX0_tablesCall_154 : decode cX0_tablesCall 154 = .ok (.iconst 1, 1) := by decide +kernel
theorem dX0_tablesCall_155 : decode cX0_tablesCall 155 = .ok (.invokevirtual 587, 3) := by decide +kernel
theorem dX0_tablesCall_158 : decode cX0_tablesCall 158 = .ok (.aload_n 0, 1) := by decide +kernel
theorem dX0_tablesCall_159 : decode cX0_tablesCall 159 = .ok (.iconst 2, 1) := by decide +kernel
theorem dX0_tablesCall_160 : decode cX0_tablesCall 160 = .ok (.invokevirtual 587, 3) := by decide +kernel
theorem dX0_tablesCall_163 : decode cX0_tablesCall 163 = .ok (.aload_n 0, 1) := by decide +kernel
theorem dX0_tablesCall_164 : decode cX0_tablesCall 164 = .ok (.iconst 3, 1) := by decide +kernel
theorem dX0_tablesCall_165 : decode cX0_tablesCall 165 = .ok (.invokevirtual 587, 3) := by decide +kernel
theorem dX0_tablesCall_168 : decode cX0_tablesCall 168 = .ok (.aload_n 0, 1) := by decide +kernel
theorem dX0_tablesCall_169 : decode cX0_tablesCall 169 = .ok (.iconst 4, 1) := by decide +kernel
theorem dX0_tablesCall_170 : decode cX0_tablesCall 170 = .ok (.invokevirtual 587, 3) := by decide +kernel
theorem dX0_tablesCall_173 : decode cX0_tablesCall 173 = .ok (.aload_n 0, 1) := by decide +kernel
theorem dX0_tablesCall_174 : decode cX0_tablesCall 174 = .ok (.iconst 5, 1) := by decide +kernel
theorem dX0_tablesCall_175 : decode cX0_tablesCall 175 = .ok (.invokevirtual 587, 3) := by decide +kernel
theorem dX0_tablesCall_178 : decode cX0_tablesCall 178 = .ok (.invokevirtual 808, 3) := by decide +kernel
theorem dX0_tablesCall_181 : decode cX0_tablesCall 181 = .ok (.i2l, 1) := by decide +kernel
theorem dX0_tablesCall_182 : decode cX0_tablesCall 182 = .ok (.lreturn, 1) := by decide +kernel
theorem dX0_tablesCall_183 : decode cX0_tablesCall 183 = .ok (.aload_n 0, 1) := by decide +kernel
theorem dX0_tablesCall_184 : decode cX0_tablesCall 184 = .ok (.getfield 71, 3) := by decide +kernel
theorem dX0_tablesCall_187 : decode cX0_tablesCall 187 = .ok (.invokevirtual 810, 3) := by decide +kernel
theorem dX0_tablesCall_190 : decode cX0_tablesCall 190 = .ok (.i2l, 1) := by decide +kernel
theorem dX0_tablesCall_191 : decode cX0_tablesCall 191 = .ok (.lreturn, 1) := by decide +kernel
theorem dX0_tablesCall_192 : decode cX0_tablesCall 192 = .ok (.aload_n 0, 1) := by decide +kernel
theorem dX0_tablesCall_193 : decode cX0_tablesCall 193 = .ok (.getfield 71, 3) := by decide +kernel
theorem dX0_tablesCall_196 : decode cX0_tablesCall 196 = .ok (.aload_n 0, 1) := by decide +kernel
theorem dX0_tablesCall_197 : decode cX0_tablesCall 197 = .ok (.iconst 0, 1) := by decide +kernel
theorem dX0_tablesCall_198 : decode cX0_tablesCall 198 = .ok (.invokevirtual 587, 3) := by decide +kernel
theorem dX0_tablesCall_201 : decode cX0_tablesCall 201 = .ok (.aload_n 0, 1) := by decide +kernel
theorem dX0_tablesCall_202 : decode cX0_tablesCall 202 = .ok (.iconst 1, 1) := by decide +kernel
theorem dX0_tablesCall_203 : decode cX0_tablesCall 203 = .ok (.invokevirtual 587, 3) := by decide +kernel
theorem dX0_tablesCall_206 : decode cX0_tablesCall 206 = .ok (.aload_n 0, 1) := by decide +kernel
theorem dX0_tablesCall_207 : decode cX0_tablesCall 207 = .ok (.iconst 2, 1) := by decide +kernel
theorem dX0_tablesCall_208 : decode cX0_tablesCall 208 = .ok (.invokevirtual 587, 3) := by decide +kernel
theorem dX0_tablesCall_211 : decode cX0_tablesCall 211 = .ok (.invokevirtual 811, 3) := by decide +kernel
theorem dX0_tablesCall_214 : decode cX0_tablesCall 214 = .ok (.i2l, 1) := by decide +kernel
theorem dX0_tablesCall_215 : decode cX0_tablesCall 215 = .ok (.lreturn, 1) := by decide +kernel
theorem dX0_tablesCall_216 : decode cX0_tablesCall 216 = .ok (.aload_n 0, 1) := by decide +kernel
theorem dX0_tablesCall_217 : decode cX0_tablesCall 217 = .ok (.getfield 71, 3) := by decide +kernel
theorem dX0_tablesCall_220 : decode cX0_tablesCall 220 = .ok (.aload_n 0, 1) := by decide +kernel
theorem dX0_tablesCall_221 : decode cX0_tablesCall 221 = .ok (.iconst 0, 1) := by decide +kernel
theorem dX0_tablesCall_222 : decode cX0_tablesCall 222 = .ok (.invokevirtual 587, 3) := by decide +kernel
theorem dX0_tablesCall_225 : decode cX0_tablesCall 225 = .ok (.aload_n 0, 1) := by decide +kernel
theorem dX0_tablesCall_226 : decode cX0_tablesCall 226 = .ok (.iconst 1, 1) := by decide +kernel
theorem dX0_tablesCall_227 : decode cX0_tablesCall 227 = .ok (.invokevirtual 587, 3) := by decide +kernel
theorem dX0_tablesCall_230 : decode cX0_tablesCall 230 = .ok (.aload_n 0, 1) := by decide +kernel
theorem dX0_tablesCall_231 : decode cX0_tablesCall 231 = .ok (.iconst 2, 1) := by decide +kernel
theorem dX0_tablesCall_232 : decode cX0_tablesCall 232 = .ok (.invokevirtual 587, 3) := by decide +kernel
theorem dX0_tablesCall_235 : decode cX0_tablesCall 235 = .ok (.invokevirtual 813, 3) := by decide +kernel
theorem dX0_tablesCall_238 : decode cX0_tablesCall 238 = .ok (.i2l, 1) := by decide +kernel
theorem dX0_tablesCall_239 : decode cX0_tablesCall 239 = .ok (.lreturn, 1) := by decide +kernel
theorem dX0_tablesCall_240 : decode cX0_tablesCall 240 = .ok (.aload_n 0, 1) := by decide +kernel
theorem dX0_tablesCall_241 : decode cX0_tablesCall 241 = .ok (.getfield 71, 3) := by decide +kernel
theorem dX0_tablesCall_244 : decode cX0_tablesCall 244 = .ok (.invokevirtual 815, 3) := by decide +kernel
theorem dX0_tablesCall_247 : decode cX0_tablesCall 247 = .ok (.i2l, 1) := by decide +kernel
theorem dX0_tablesCall_248 : decode cX0_tablesCall 248 = .ok (.lreturn, 1) := by decide +kernel
theorem dX0_tablesCall_249 : decode cX0_tablesCall 249 = .ok (.aload_n 0, 1) := by decide +kernel
theorem dX0_tablesCall_250 : decode cX0_tablesCall 250 = .ok (.getfield 71, 3) := by decide +kernel
theorem dX0_tablesCall_253 : decode cX0_tablesCall 253 = .ok (.invokevirtual 817, 3) := by decide +kernel
theorem dX0_tablesCall_256 : decode cX0_tablesCall 256 = .ok (.i2l, 1) := by decide +kernel
theorem dX0_tablesCall_257 : decode cX0_tablesCall 257 = .ok (.lreturn, 1) := by decide +kernel
theorem dX0_tablesCall_258 : decode cX0_tablesCall 258 = .ok (.aload_n 0, 1) := by decide +kernel
theorem dX0_tablesCall_259 : decode cX0_tablesCall 259 = .ok (.getfield 71, 3) := by decide +kernel
theorem dX0_tablesCall_262 : decode cX0_tablesCall 262 = .ok (.aload_n 0, 1) := by decide +kernel
theorem dX0_tablesCall_263 : decode cX0_tablesCall 263 = .ok (.iconst 0, 1) := by decide +kernel
theorem dX0_tablesCall_264 : decode cX0_tablesCall 264 = .ok (.invokevirtual 587, 3) := by decide +kernel
theorem dX0_tablesCall_267 : decode cX0_tablesCall 267 = .ok (.aload_n 0, 1) := by decide +kernel
theorem dX0_tablesCall_268 : decode cX0_tablesCall 268 = .ok (.iconst 1, 1) := by decide +kernel
theorem dX0_tablesCall_269 : decode cX0_tablesCall 269 = .ok (.invokevirtual 587, 3) := by decide +kernel
theorem dX0_tablesCall_272 : decode cX0_tablesCall 272 = .ok (.invokevirtual 819, 3) := by decide +kernel
theorem dX0_tablesCall_275 : decode cX0_tablesCall 275 = .ok (.i2l, 1) := by decide +kernel
theorem dX0_tablesCall_276 : decode cX0_tablesCall 276 = .ok (.lreturn, 1) := by decide +kernel
theorem dX0_tablesCall_277 : decode cX0_tablesCall 277 = .ok (.aload_n 0, 1) := by decide +kernel
theorem dX0_tablesCall_278 : decode cX0_tablesCall 278 = .ok (.getfield 71, 3) := by decide +kernel
theorem dX0_tablesCall_281 : decode cX0_tablesCall 281 = .ok (.aload_n 0, 1) := by decide +kernel
theorem dX0_tablesCall_282 : decode cX0_tablesCall 282 = .ok (.iconst 0, 1) := by decide +kernel
theorem dX0_tablesCall_283 : decode cX0_tablesCall 283 = .ok (.invokevirtual 587, 3) := by decide +kernel
theorem dX0_tablesCall_286 : decode cX0_tablesCall 286 = .ok (.invokevirtual 821, 3) := by decide +kernel
theorem dX0_tablesCall_289 : decode cX0_tablesCall 289 = .ok (.i2l, 1) := by decide +kernel
theorem dX0_tablesCall_290 : decode cX0_tablesCall 290 = .ok (.lreturn, 1) := by decide +kernel
theorem dX0_tablesCall_291 : decode cX0_tablesCall 291 = .ok (.aload_n 0, 1) := by decide +kernel
theorem dX0_tablesCall_292 : decode cX0_tablesCall 292 = .ok (.getfield 71, 3) := by decide +kernel
theorem dX0_tablesCall_295 : decode cX0_tablesCall 295 = .ok (.invokevirtual 823, 3) := by decide +kernel
theorem dX0_tablesCall_298 : decode cX0_tablesCall 298 = .ok (.i2l, 1) := by decide +kernel
theorem dX0_tablesCall_299 : decode cX0_tablesCall 299 = .ok (.lreturn, 1) := by decide +kernel
theorem dX0_tablesCall_300 : decode cX0_tablesCall 300 = .ok (.aload_n 0, 1) := by decide +kernel
theorem dX0_tablesCall_301 : decode cX0_tablesCall 301 = .ok (.getfield 71, 3) := by decide +kernel
theorem dX0_tablesCall_304 : decode cX0_tablesCall 304 = .ok (.aload_n 0, 1) := by decide +kernel
theorem dX0_tablesCall_305 : decode cX0_tablesCall 305 = .ok (.iconst 0, 1) := by decide +kernel
theorem dX0_tablesCall_306 : decode cX0_tablesCall 306 = .ok (.invokevirtual 587, 3) := by decide +kernel
theorem dX0_tablesCall_309 : decode cX0_tablesCall 309 = .ok (.aload_n 0, 1) := by decide +kernel
theorem dX0_tablesCall_310 : decode cX0_tablesCall 310 = .ok (.iconst 1, 1) := by decide +kernel
theorem dX0_tablesCall_311 : decode cX0_tablesCall 311 = .ok (.invokevirtual 587, 3) := by decide +kernel
theorem dX0_tablesCall_314 : decode cX0_tablesCall 314 = .ok (.invokevirtual 824, 3) := by decide +kernel
theorem dX0_tablesCall_317 : decode cX0_tablesCall 317 = .ok (.i2l, 1) := by decide +kernel
theorem dX0_tablesCall_318 : decode cX0_tablesCall 318 = .ok (.lreturn, 1) := by decide +kernel
theorem dX0_tablesCall_319 : decode cX0_tablesCall 319 = .ok (.aload_n 0, 1) := by decide +kernel
theorem dX0_tablesCall_320 : decode cX0_tablesCall 320 = .ok (.getfield 71, 3) := by decide +kernel
theorem dX0_tablesCall_323 : decode cX0_tablesCall 323 = .ok (.aload_n 0, 1) := by decide +kernel
theorem dX0_tablesCall_324 : decode cX0_tablesCall 324 = .ok (.iconst 0, 1) := by decide +kernel
theorem dX0_tablesCall_325 : decode cX0_tablesCall 325 = .ok (.invokevirtual 587, 3) := by decide +kernel
theorem dX0_tablesCall_328 : decode cX0_tablesCall 328 = .ok (.aload_n 0, 1) := by decide +kernel
theorem dX0_tablesCall_329 : decode cX0_tablesCall 329 = .ok (.iconst 1, 1) := by decide +kernel
theorem dX0_tablesCall_330 : decode cX0_tablesCall 330 = .ok (.invokevirtual 587, 3) := by decide +kernel
theorem dX0_tablesCall_333 : decode cX0_tablesCall 333 = .ok (.invokevirtual 826, 3) := by decide +kernel
theorem dX0_tablesCall_336 : decode cX0_tablesCall 336 = .ok (.i2l, 1) := by decide +kernel
theorem dX0_tablesCall_337 : decode cX0_tablesCall 337 = .ok (.lreturn, 1) := by decide +kernel
theorem dX0_tablesCall_338 : decode cX0_tablesCall 338 = .ok (.ldc2_w 535, 3) := by decide +kernel
theorem dX0_tablesCall_341 : decode cX0_tablesCall 341 = .ok (.lreturn, 1) := by decide +kernel
abbrev cX0_rulesCall : ByteArray := prog_1_method_35_code
def yX0_rulesCall : MethodName := ⟨RX0, "rulesCall", "(I)J"⟩
theorem dX0_rulesCall_0 : decode cX0_rulesCall 0 = .ok (.iload_n 1, 1) := by decide +kernel
theorem dX0_rulesCall_1 : decode cX0_rulesCall 1 = .ok (.tableswitch 380 0 14 #[75, 99, 123, 147, 181, 210, 234, 248, 262, 271, 285, 309, 333, 357, 371], 75) := by decide +kernel
theorem dX0_rulesCall_76 : decode cX0_rulesCall 76 = .ok (.aload_n 0, 1) := by decide +kernel
theorem dX0_rulesCall_77 : decode cX0_rulesCall 77 = .ok (.getfield 78, 3) := by decide +kernel
theorem dX0_rulesCall_80 : decode cX0_rulesCall 80 = .ok (.aload_n 0, 1) := by decide +kernel
theorem dX0_rulesCall_81 : decode cX0_rulesCall 81 = .ok (.iconst 0, 1) := by decide +kernel
theorem dX0_rulesCall_82 : decode cX0_rulesCall 82 = .ok (.invokevirtual 587, 3) := by decide +kernel
theorem dX0_rulesCall_85 : decode cX0_rulesCall 85 = .ok (.aload_n 0, 1) := by decide +kernel
theorem dX0_rulesCall_86 : decode cX0_rulesCall 86 = .ok (.iconst 1, 1) := by decide +kernel
theorem dX0_rulesCall_87 : decode cX0_rulesCall 87 = .ok (.invokevirtual 587, 3) := by decide +kernel
theorem dX0_rulesCall_90 : decode cX0_rulesCall 90 = .ok (.aload_n 0, 1) := by decide +kernel
theorem dX0_rulesCall_91 : decode cX0_rulesCall 91 = .ok (.iconst 2, 1) := by decide +kernel
theorem dX0_rulesCall_92 : decode cX0_rulesCall 92 = .ok (.invokevirtual 587, 3) := by decide +kernel
theorem dX0_rulesCall_95 : decode cX0_rulesCall 95 = .ok (.invokevirtual 828, 3) := by decide +kernel
theorem dX0_rulesCall_98 : decode cX0_rulesCall 98 = .ok (.i2l, 1) := by decide +kernel
theorem dX0_rulesCall_99 : decode cX0_rulesCall 99 = .ok (.lreturn, 1) := by decide +kernel
theorem dX0_rulesCall_100 : decode cX0_rulesCall 100 = .ok (.aload_n 0, 1) := by decide +kernel
theorem dX0_rulesCall_101 : decode cX0_rulesCall 101 = .ok (.getfield 78, 3) := by decide +kernel
theorem dX0_rulesCall_104 : decode cX0_rulesCall 104 = .ok (.aload_n 0, 1) := by decide +kernel
theorem dX0_rulesCall_105 : decode cX0_rulesCall 105 = .ok (.iconst 0, 1) := by decide +kernel
theorem dX0_rulesCall_106 : decode cX0_rulesCall 106 = .ok (.invokevirtual 587, 3) := by decide +kernel
theorem dX0_rulesCall_109 : decode cX0_rulesCall 109 = .ok (.aload_n 0, 1) := by decide +kernel
theorem dX0_rulesCall_110 : decode cX0_rulesCall 110 = .ok (.iconst 1, 1) := by decide +kernel
theorem dX0_rulesCall_111 : decode cX0_rulesCall 111 = .ok (.invokevirtual 587, 3) := by decide +kernel
theorem dX0_rulesCall_114 : decode cX0_rulesCall 114 = .ok (.aload_n 0, 1) := by decide +kernel
theorem dX0_rulesCall_115 : decode cX0_rulesCall 115 = .ok (.iconst 2, 1) := by decide +kernel
theorem dX0_rulesCall_116 : decode cX0_rulesCall 116 = .ok (.invokevirtual 587, 3) := by decide +kernel
theorem dX0_rulesCall_119 : decode cX0_rulesCall 119 = .ok (.invokevirtual 830, 3) := by decide +kernel
theorem dX0_rulesCall_122 : decode cX0_rulesCall 122 = .ok (.i2l, 1) := by decide +kernel
theorem dX0_rulesCall_123 : decode cX0_rulesCall 123 = .ok (.lreturn, 1) := by decide +kernel
theorem dX0_rulesCall_124 : decode cX0_rulesCall 124 = .ok (.aload_n 0, 1) := by decide +kernel
theorem dX0_rulesCall_125 : decode cX0_rulesCall 125 = .ok (.getfield 78, 3) := by decide +kernel
theorem dX0_rulesCall_128 : decode cX0_rulesCall 128 = .ok (.aload_n 0, 1) := by decide +kernel
theorem dX0_rulesCall_129 : decode cX0_rulesCall 129 = .ok (.iconst 0, 1) := by decide +kernel
theorem dX0_rulesCall_130 : decode cX0_rulesCall 130 = .ok (.invokevirtual 587, 3) := by decide +kernel
theorem dX0_rulesCall_133 : decode cX0_rulesCall 133 = .ok (.aload_n 0, 1) := by decide +kernel
theorem dX0_rulesCall_134 : decode cX0_rulesCall 134 = .ok (.iconst 1, 1) := by decide +kernel
theorem dX0_rulesCall_135 : decode cX0_rulesCall 135 = .ok (.invokevirtual 587, 3) := by decide +kernel
theorem dX0_rulesCall_138 : decode cX0_rulesCall 138 = .ok (.aload_n 0, 1) := by decide +kernel
theorem dX0_rulesCall_139 : decode cX0_rulesCall 139 = .ok (.iconst 2, 1) := by decide +kernel
theorem dX0_rulesCall_140 : decode cX0_rulesCall 140 = .ok (.invokevirtual 587, 3) := by decide +kernel
theorem dX0_rulesCall_143 : decode cX0_rulesCall 143 = .ok (.invokevirtual 832, 3) := by decide +kernel
theorem dX0_rulesCall_146 : decode cX0_rulesCall 146 = .ok (.i2l, 1) := by decide +kernel
theorem dX0_rulesCall_147 : decode cX0_rulesCall 147 = .ok (.lreturn, 1) := by decide +kernel
theorem dX0_rulesCall_148 : decode cX0_rulesCall 148 = .ok (.aload_n 0, 1) := by decide +kernel
theorem dX0_rulesCall_149 : decode cX0_rulesCall 149 = .ok (.getfield 78, 3) := by decide +kernel
theorem dX0_rulesCall_152 : decode cX0_rulesCall 152 = .ok (.aload_n 0, 1) := by decide +kernel
theorem dX0_rulesCall_153 : decode cX0_rulesCall 153 = .ok (.iconst 0, 1) := by decide +kernel
theorem dX0_rulesCall_154 : decode cX0_rulesCall 154 = .ok (.invokevirtual 587, 3) := by decide +kernel
theorem dX0_rulesCall_157 : decode cX0_rulesCall 157 = .ok (.aload_n 0, 1) := by decide +kernel
theorem dX0_rulesCall_158 : decode cX0_rulesCall 158 = .ok (.iconst 1, 1) := by decide +kernel
theorem dX0_rulesCall_159 : decode cX0_rulesCall 159 = .ok (.invokevirtual 587, 3) := by decide +kernel
theorem dX0_rulesCall_162 : decode cX0_rulesCall 162 = .ok (.aload_n 0, 1) := by decide +kernel
theorem dX0_rulesCall_163 : decode cX0_rulesCall 163 = .ok (.iconst 2, 1) := by decide +kernel
theorem dX0_rulesCall_164 : decode cX0_rulesCall 164 = .ok (.invokevirtual 587, 3) := by decide +kernel
theorem dX0_rulesCall_167 : decode cX0_rulesCall 167 = .ok (.aload_n 0, 1) := by decide +kernel
theorem dX0_rulesCall_168 : decode cX0_rulesCall 168 = .ok (.iconst 3, 1) := by decide +kernel
theorem dX0_rulesCall_169 : decode cX0_rulesCall 169 = .ok (.invokevirtual 587, 3) := by decide +kernel
theorem dX0_rulesCall_172 : decode cX0_rulesCall 172 = .ok (.aload_n 0, 1) := by decide +kernel
theorem dX0_rulesCall_173 : decode cX0_rulesCall 173 = .ok (.iconst 4, 1) := by decide +kernel
theorem dX0_rulesCall_174 : decode cX0_rulesCall 174 = .ok (.invokevirtual 626, 3) := by decide +kernel
theorem dX0_rulesCall_177 : decode cX0_rulesCall 177 = .ok (.invokevirtual 834, 3) := by decide +kernel
theorem dX0_rulesCall_180 : decode cX0_rulesCall 180 = .ok (.i2l, 1) := by decide +kernel
theorem dX0_rulesCall_181 : decode cX0_rulesCall 181 = .ok (.lreturn, 1) := by decide +kernel
theorem dX0_rulesCall_182 : decode cX0_rulesCall 182 = .ok (.aload_n 0, 1) := by decide +kernel
theorem dX0_rulesCall_183 : decode cX0_rulesCall 183 = .ok (.getfield 78, 3) := by decide +kernel
theorem dX0_rulesCall_186 : decode cX0_rulesCall 186 = .ok (.aload_n 0, 1) := by decide +kernel
theorem dX0_rulesCall_187 : decode cX0_rulesCall 187 = .ok (.iconst 0, 1) := by decide +kernel
theorem dX0_rulesCall_188 : decode cX0_rulesCall 188 = .ok (.invokevirtual 587, 3) := by decide +kernel
theorem dX0_rulesCall_191 : decode cX0_rulesCall 191 = .ok (.aload_n 0, 1) := by decide +kernel
theorem dX0_rulesCall_192 : decode cX0_rulesCall 192 = .ok (.iconst 1, 1) := by decide +kernel
theorem dX0_rulesCall_193 : decode cX0_rulesCall 193 = .ok (.invokevirtual 587, 3) := by decide +kernel
theorem dX0_rulesCall_196 : decode cX0_rulesCall 196 = .ok (.aload_n 0, 1) := by decide +kernel
theorem dX0_rulesCall_197 : decode cX0_rulesCall 197 = .ok (.iconst 2, 1) := by decide +kernel
theorem dX0_rulesCall_198 : decode cX0_rulesCall 198 = .ok (.invokevirtual 587, 3) := by decide +kernel
theorem dX0_rulesCall_201 : decode cX0_rulesCall 201 = .ok (.aload_n 0, 1) := by decide +kernel
theorem dX0_rulesCall_202 : decode cX0_rulesCall 202 = .ok (.iconst 3, 1) := by decide +kernel
theorem dX0_rulesCall_203 : decode cX0_rulesCall 203 = .ok (.invokevirtual 587, 3) := by decide +kernel
theorem dX0_rulesCall_206 : decode cX0_rulesCall 206 = .ok (.invokevirtual 837, 3) := by decide +kernel
theorem dX0_rulesCall_209 : decode cX0_rulesCall 209 = .ok (.i2l, 1) := by decide +kernel
theorem dX0_rulesCall_210 : decode cX0_rulesCall 210 = .ok (.lreturn, 1) := by decide +kernel
theorem dX0_rulesCall_211 : decode cX0_rulesCall 211 = .ok (.aload_n 0, 1) := by decide +kernel
theorem dX0_rulesCall_212 : decode cX0_rulesCall 212 = .ok (.getfield 78, 3) := by decide +kernel
theorem dX0_rulesCall_215 : decode cX0_rulesCall 215 = .ok (.aload_n 0, 1) := by decide +kernel
theorem dX0_rulesCall_216 : decode cX0_rulesCall 216 = .ok (.iconst 0, 1) := by decide +kernel
theorem dX0_rulesCall_217 : decode cX0_rulesCall 217 = .ok (.invokevirtual 587, 3) := by decide +kernel
theorem dX0_rulesCall_220 : decode cX0_rulesCall 220 = .ok (.aload_n 0, 1) := by decide +kernel
theorem dX0_rulesCall_221 : decode cX0_rulesCall 221 = .ok (.iconst 1, 1) := by decide +kernel
theorem dX0_rulesCall_222 : decode cX0_rulesCall 222 = .ok (.invokevirtual 587, 3) := by decide +kernel
theorem dX0_rulesCall_225 : decode cX0_rulesCall 225 = .ok (.aload_n 0, 1) := by decide +kernel
theorem dX0_rulesCall_226 : decode cX0_rulesCall 226 = .ok (.iconst 2, 1) := by decide +kernel
theorem dX0_rulesCall_227 : decode cX0_rulesCall 227 = .ok (.invokevirtual 587, 3) := by decide +kernel
theorem dX0_rulesCall_230 : decode cX0_rulesCall 230 = .ok (.invokevirtual 839, 3) := by decide +kernel
theorem dX0_rulesCall_233 : decode cX0_rulesCall 233 = .ok (.i2l, 1) := by decide +kernel
theorem dX0_rulesCall_234 : decode cX0_rulesCall 234 = .ok (.lreturn, 1) := by decide +kernel
theorem dX0_rulesCall_235 : decode cX0_rulesCall 235 = .ok (.aload_n 0, 1) := by decide +kernel
theorem dX0_rulesCall_236 : decode cX0_rulesCall 236 = .ok (.getfield 78, 3) := by decide +kernel
theorem dX0_rulesCall_239 : decode cX0_rulesCall 239 = .ok (.aload_n 0, 1) := by decide +kernel
theorem dX0_rulesCall_240 : decode cX0_rulesCall 240 = .ok (.iconst 0, 1) := by decide +kernel
theorem dX0_rulesCall_241 : decode cX0_rulesCall 241 = .ok (.invokevirtual 587, 3) := by decide +kernel
theorem dX0_rulesCall_244 : decode cX0_rulesCall 244 = .ok (.invokevirtual 841, 3) := by decide +kernel
theorem dX0_rulesCall_247 : decode cX0_rulesCall 247 = .ok (.i2l, 1) := by decide +kernel
theorem dX0_rulesCall_248 : decode cX0_rulesCall 248 = .ok (.lreturn, 1) := by decide +kernel
theorem dX0_rulesCall_249 : decode cX0_rulesCall 249 = .ok (.aload_n 0, 1) := by decide +kernel
theorem dX0_rulesCall_250 : decode cX0_rulesCall 250 = .ok (.getfield 78, 3) := by decide +kernel
theorem dX0_rulesCall_253 : decode cX0_rulesCall 253 = .ok (.aload_n 0, 1) := by decide +kernel
theorem dX0_rulesCall_254 : decode cX0_rulesCall 254 = .ok (.iconst 0, 1) := by decide +kernel
theorem dX0_rulesCall_255 : decode cX0_rulesCall 255 = .ok (.invokevirtual 587, 3) := by decide +kernel
theorem dX0_rulesCall_258 : decode cX0_rulesCall 258 = .ok (.invokevirtual 842, 3) := by decide +kernel
theorem dX0_rulesCall_261 : decode cX0_rulesCall 261 = .ok (.i2l, 1) := by decide +kernel
theorem dX0_rulesCall_262 : decode cX0_rulesCall 262 = .ok (.lreturn, 1) := by decide +kernel
theorem dX0_rulesCall_263 : decode cX0_rulesCall 263 = .ok (.aload_n 0, 1) := by decide +kernel
theorem dX0_rulesCall_264 : decode cX0_rulesCall 264 = .ok (.getfield 78, 3) := by decide +kernel
theorem dX0_rulesCall_267 : decode cX0_rulesCall 267 = .ok (.invokevirtual 844, 3) := by decide +kernel
theorem dX0_rulesCall_270 : decode cX0_rulesCall 270 = .ok (.i2l, 1) := by decide +kernel
theorem dX0_rulesCall_271 : decode cX0_rulesCall 271 = .ok (.lreturn, 1) := by decide +kernel
theorem dX0_rulesCall_272 : decode cX0_rulesCall 272 = .ok (.aload_n 0, 1) := by decide +kernel
theorem dX0_rulesCall_273 : decode cX0_rulesCall 273 = .ok (.getfield 78, 3) := by decide +kernel
theorem dX0_rulesCall_276 : decode cX0_rulesCall 276 = .ok (.aload_n 0, 1) := by decide +kernel
theorem dX0_rulesCall_277 : decode cX0_rulesCall 277 = .ok (.iconst 0, 1) := by decide +kernel
theorem dX0_rulesCall_278 : decode cX0_rulesCall 278 = .ok (.invokevirtual 587, 3) := by decide +kernel
theorem dX0_rulesCall_281 : decode cX0_rulesCall 281 = .ok (.invokevirtual 845, 3) := by decide +kernel
theorem dX0_rulesCall_284 : decode cX0_rulesCall 284 = .ok (.i2l, 1) := by decide +kernel
theorem dX0_rulesCall_285 : decode cX0_rulesCall 285 = .ok (.lreturn, 1) := by decide +kernel
theorem dX0_rulesCall_286 : decode cX0_rulesCall 286 = .ok (.aload_n 0, 1) := by decide +kernel
theorem dX0_rulesCall_287 : decode cX0_rulesCall 287 = .ok (.getfield 78, 3) := by decide +kernel
theorem dX0_rulesCall_290 : decode cX0_rulesCall 290 = .ok (.aload_n 0, 1) := by decide +kernel
theorem dX0_rulesCall_291 : decode cX0_rulesCall 291 = .ok (.iconst 0, 1) := by decide +kernel
theorem dX0_rulesCall_292 : decode cX0_rulesCall 292 = .ok (.invokevirtual 587, 3) := by decide +kernel
theorem dX0_rulesCall_295 : decode cX0_rulesCall 295 = .ok (.aload_n 0, 1) := by decide +kernel
theorem dX0_rulesCall_296 : decode cX0_rulesCall 296 = .ok (.iconst 1, 1) := by decide +kernel
theorem dX0_rulesCall_297 : decode cX0_rulesCall 297 = .ok (.invokevirtual 587, 3) := by decide +kernel
theorem dX0_rulesCall_300 : decode cX0_rulesCall 300 = .ok (.aload_n 0, 1) := by decide +kernel
theorem dX0_rulesCall_301 : decode cX0_rulesCall 301 = .ok (.iconst 2, 1) := by decide +kernel
theorem dX0_rulesCall_302 : decode cX0_rulesCall 302 = .ok (.invokevirtual 587, 3) := by decide +kernel
theorem dX0_rulesCall_305 : decode cX0_rulesCall 305 = .ok (.invokevirtual 847, 3) := by decide +kernel
theorem dX0_rulesCall_308 : decode cX0_rulesCall 308 = .ok (.i2l, 1) := by decide +kernel
theorem dX0_rulesCall_309 : decode cX0_rulesCall 309 = .ok (.lreturn, 1) := by decide +kernel
theorem dX0_rulesCall_310 : decode cX0_rulesCall 310 = .ok (.aload_n 0, 1) := by decide +kernel
theorem dX0_rulesCall_311 : decode cX0_rulesCall 311 = .ok (.getfield 78, 3) := by decide +kernel
theorem dX0_rulesCall_314 : decode cX0_rulesCall 314 = .ok (.aload_n 0, 1) := by decide +kernel
theorem dX0_rulesCall_315 : decode cX0_rulesCall 315 = .ok (.iconst 0, 1) := by decide +kernel
theorem dX0_rulesCall_316 : decode cX0_rulesCall 316 = .ok (.invokevirtual 587, 3) := by decide +kernel
theorem dX0_rulesCall_319 : decode cX0_rulesCall 319 = .ok (.aload_n 0, 1) := by decide +kernel
theorem dX0_rulesCall_320 : decode cX0_rulesCall 320 = .ok (.iconst 1, 1) := by decide +kernel
theorem dX0_rulesCall_321 : decode cX0_rulesCall 321 = .ok (.invokevirtual 587, 3) := by decide +kernel
theorem dX0_rulesCall_324 : decode cX0_rulesCall 324 = .ok (.aload_n 0, 1) := by decide +kernel
theorem dX0_rulesCall_325 : decode cX0_rulesCall 325 = .ok (.iconst 2, 1) := by decide +kernel
theorem dX0_rulesCall_326 : decode cX0_rulesCall 326 = .ok (.invokevirtual 587, 3) := by decide +kernel
theorem dX0_rulesCall_329 : decode cX0_rulesCall 329 = .ok (.invokevirtual 849, 3) := by decide +kernel
theorem dX0_rulesCall_332 : decode cX0_rulesCall 332 = .ok (.i2l, 1) := by decide +kernel
theorem dX0_rulesCall_333 : decode cX0_rulesCall 333 = .ok (.lreturn, 1) := by decide +kernel
theorem dX0_rulesCall_334 : decode cX0_rulesCall 334 = .ok (.aload_n 0, 1) := by decide +kernel
theorem dX0_rulesCall_335 : decode cX0_rulesCall 335 = .ok (.getfield 78, 3) := by decide +kernel
theorem dX0_rulesCall_338 : decode cX0_rulesCall 338 = .ok (.aload_n 0, 1) := by decide +kernel
theorem dX0_rulesCall_339 : decode cX0_rulesCall 339 = .ok (.iconst 0, 1) := by decide +kernel
theorem dX0_rulesCall_340 : decode cX0_rulesCall 340 = .ok (.invokevirtual 587, 3) := by decide +kernel
theorem dX0_rulesCall_343 : decode cX0_rulesCall 343 = .ok (.aload_n 0, 1) := by decide +kernel
theorem dX0_rulesCall_344 : decode cX0_rulesCall 344 = .ok (.iconst 1, 1) := by decide +kernel
theorem dX0_rulesCall_345 : decode cX0_rulesCall 345 = .ok (.invokevirtual 587, 3) := by decide +kernel
theorem dX0_rulesCall_348 : decode cX0_rulesCall 348 = .ok (.aload_n 0, 1) := by decide +kernel
theorem dX0_rulesCall_349 : decode cX0_rulesCall 349 = .ok (.iconst 2, 1) := by decide +kernel
theorem dX0_rulesCall_350 : decode cX0_rulesCall 350 = .ok (.invokevirtual 587, 3) := by decide +kernel
theorem dX0_rulesCall_353 : decode cX0_rulesCall 353 = .ok (.invokevirtual 851, 3) := by decide +kernel
theorem dX0_rulesCall_356 : decode cX0_rulesCall 356 = .ok (.i2l, 1) := by decide +kernel
theorem dX0_rulesCall_357 : decode cX0_rulesCall 357 = .ok (.lreturn, 1) := by decide +kernel
theorem dX0_rulesCall_358 : decode cX0_rulesCall 358 = .ok (.aload_n 0, 1) := by decide +kernel
theorem dX0_rulesCall_359 : decode cX0_rulesCall 359 = .ok (.getfield 78, 3) := by decide +kernel
theorem dX0_rulesCall_362 : decode cX0_rulesCall 362 = .ok (.aload_n 0, 1) := by decide +kernel
theorem dX0_rulesCall_363 : decode cX0_rulesCall 363 = .ok (.iconst 0, 1) := by decide +kernel
theorem dX0_rulesCall_364 : decode cX0_rulesCall 364 = .ok (.invokevirtual 587, 3) := by decide +kernel
theorem dX0_rulesCall_367 : decode cX0_rulesCall 367 = .ok (.invokevirtual 853, 3) := by decide +kernel
theorem dX0_rulesCall_370 : decode cX0_rulesCall 370 = .ok (.i2l, 1) := by decide +kernel
theorem dX0_rulesCall_371 : decode cX0_rulesCall 371 = .ok (.lreturn, 1) := by decide +kernel
theorem dX0_rulesCall_372 : decode cX0_rulesCall 372 = .ok (.aload_n 0, 1) := by decide +kernel
theorem dX0_rulesCall_373 : decode cX0_rulesCall 373 = .ok (.getfield 78, 3) := by decide +kernel
theorem dX0_rulesCall_376 : decode cX0_rulesCall 376 = .ok (.invokevirtual 855, 3) := by decide +kernel
theorem dX0_rulesCall_379 : decode cX0_rulesCall 379 = .ok (.i2l, 1) := by decide +kernel
theorem dX0_rulesCall_380 : decode cX0_rulesCall 380 = .ok (.lreturn, 1) := by decide +kernel
theorem dX0_rulesCall_381 : decode cX0_rulesCall 381 = .ok (.ldc2_w 535, 3) := by decide +kernel
theorem dX0_rulesCall_384 : decode cX0_rulesCall 384 = .ok (.lreturn, 1) := by decide +kernel
abbrev cX0_rewriteCall : ByteArray := prog_1_method_36_code
def yX0_rewriteCall : MethodName := ⟨RX0, "rewriteCall", "(I)J"⟩
theorem dX0_rewriteCall_0 : decode cX0_rewriteCall 0 = .ok (.iload_n 1, 1) := by decide +kernel
theorem dX0_rewriteCall_1 : decode cX0_rewriteCall 1 = .ok (.tableswitch 319 0 12 #[67, 91, 120, 149, 163, 197, 211, 235, 249, 268, 287, 296, 310], 67) := by decide +kernel
theorem dX0_rewriteCall_68 : decode cX0_rewriteCall 68 = .ok (.aload_n 0, 1) := by decide +kernel
theorem dX0_rewriteCall_69 : decode cX0_rewriteCall 69 = .ok (.getfield 85, 3) := by decide +kernel
theorem dX0_rewriteCall_72 : decode cX0_rewriteCall 72 = .ok (.aload_n 0, 1) := by decide +kernel
theorem dX0_rewriteCall_73 : decode cX0_rewriteCall 73 = .ok (.iconst 0, 1) := by decide +kernel
theorem dX0_rewriteCall_74 : decode cX0_rewriteCall 74 = .ok (.invokevirtual 587, 3) := by decide +kernel
theorem dX0_rewriteCall_77 : decode cX0_rewriteCall 77 = .ok (.aload_n 0, 1) := by decide +kernel
theorem dX0_rewriteCall_78 : decode cX0_rewriteCall 78 = .ok (.iconst 1, 1) := by decide +kernel
theorem dX0_rewriteCall_79 : decode cX0_rewriteCall 79 = .ok (.invokevirtual 587, 3) := by decide +kernel
theorem dX0_rewriteCall_82 : decode cX0_rewriteCall 82 = .ok (.aload_n 0, 1) := by decide +kernel
theorem dX0_rewriteCall_83 : decode cX0_rewriteCall 83 = .ok (.iconst 2, 1) := by decide +kernel
theorem dX0_rewriteCall_84 : decode cX0_rewriteCall 84 = .ok (.invokevirtual 587, 3) := by decide +kernel
theorem dX0_rewriteCall_87 : decode cX0_rewriteCall 87 = .ok (.invokevirtual 856, 3) := by decide +kernel
theorem dX0_rewriteCall_90 : decode cX0_rewriteCall 90 = .ok (.i2l, 1) := by decide +kernel
theorem dX0_rewriteCall_91 : decode cX0_rewriteCall 91 = .ok (.lreturn, 1) := by decide +kernel
theorem dX0_rewriteCall_92 : decode cX0_rewriteCall 92 = .ok (.aload_n 0, 1) := by decide +kernel
theorem dX0_rewriteCall_93 : decode cX0_rewriteCall 93 = .ok (.getfield 85, 3) := by decide +kernel
theorem dX0_rewriteCall_96 : decode cX0_rewriteCall 96 = .ok (.aload_n 0, 1) := by decide +kernel
theorem dX0_rewriteCall_97 : decode cX0_rewriteCall 97 = .ok (.iconst 0, 1) := by decide +kernel
theorem dX0_rewriteCall_98 : decode cX0_rewriteCall 98 = .ok (.invokevirtual 626, 3) := by decide +kernel
theorem dX0_rewriteCall_101 : decode cX0_rewriteCall 101 = .ok (.aload_n 0, 1) := by decide +kernel
theorem dX0_rewriteCall_102 : decode cX0_rewriteCall 102 = .ok (.iconst 1, 1) := by decide +kernel
theorem dX0_rewriteCall_103 : decode cX0_rewriteCall 103 = .ok (.invokevirtual 587, 3) := by decide +kernel
theorem dX0_rewriteCall_106 : decode cX0_rewriteCall 106 = .ok (.aload_n 0, 1) := by decide +kernel
theorem dX0_rewriteCall_107 : decode cX0_rewriteCall 107 = .ok (.iconst 2, 1) := by decide +kernel
theorem dX0_rewriteCall_108 : decode cX0_rewriteCall 108 = .ok (.invokevirtual 587, 3) := by decide +kernel
theorem dX0_rewriteCall_111 : decode cX0_rewriteCall 111 = .ok (.aload_n 0, 1) := by decide +kernel
theorem dX0_rewriteCall_112 : decode cX0_rewriteCall 112 = .ok (.iconst 3, 1) := by decide +kernel
theorem dX0_rewriteCall_113 : decode cX0_rewriteCall 113 = .ok (.invokevirtual 587, 3) := by decide +kernel
theorem dX0_rewriteCall_116 : decode cX0_rewriteCall 116 = .ok (.invokevirtual 857, 3) := by decide +kernel
theorem dX0_rewriteCall_119 : decode cX0_rewriteCall 119 = .ok (.i2l, 1) := by decide +kernel
theorem dX0_rewriteCall_120 : decode cX0_rewriteCall 120 = .ok (.lreturn, 1) := by decide +kernel
theorem dX0_rewriteCall_121 : decode cX0_rewriteCall 121 = .ok (.aload_n 0, 1) := by decide +kernel
theorem dX0_rewriteCall_122 : decode cX0_rewriteCall 122 = .ok (.getfield 85, 3) := by decide +kernel
theorem dX0_rewriteCall_125 : decode cX0_rewriteCall 125 = .ok (.aload_n 0, 1) := by decide +kernel
theorem dX0_rewriteCall_126 : decode cX0_rewriteCall 126 = .ok (.iconst 0, 1) := by decide +kernel
theorem dX0_rewriteCall_127 : decode cX0_rewriteCall 127 = .ok (.invokevirtual 626, 3) := by decide +kernel
theorem dX0_rewriteCall_130 : decode cX0_rewriteCall 130 = .ok (.aload_n 0, 1) := by decide +kernel
theorem dX0_rewriteCall_131 : decode cX0_rewriteCall 131 = .ok (.iconst 1, 1) := by decide +kernel
theorem dX0_rewriteCall_132 : decode cX0_rewriteCall 132 = .ok (.invokevirtual 587, 3) := by decide +kernel
theorem dX0_rewriteCall_135 : decode cX0_rewriteCall 135 = .ok (.aload_n 0, 1) := by decide +kernel
theorem dX0_rewriteCall_136 : decode cX0_rewriteCall 136 = .ok (.iconst 2, 1) := by decide +kernel
theorem dX0_rewriteCall_137 : decode cX0_rewriteCall 137 = .ok (.invokevirtual 587, 3) := by decide +kernel
theorem dX0_rewriteCall_140 : decode cX0_rewriteCall 140 = .ok (.aload_n 0, 1) := by decide +kernel
theorem dX0_rewriteCall_141 : decode cX0_rewriteCall 141 = .ok (.iconst 3, 1) := by decide +kernel
theorem dX0_rewriteCall_142 : decode cX0_rewriteCall 142 = .ok (.invokevirtual 587, 3) := by decide +kernel
theorem dX0_rewriteCall_145 : decode cX0_rewriteCall 145 = .ok (.invokevirtual 860, 3) := by decide +kernel
theorem dX0_rewriteCall_148 : decode cX0_rewriteCall 148 = .ok (.i2l, 1) := by decide +kernel
theorem dX0_rewriteCall_149 : decode cX0_rewriteCall 149 = .ok (.lreturn, 1) := by decide +kernel
theorem dX0_rewriteCall_150 : decode cX0_rewriteCall 150 = .ok (.aload_n 0, 1) := by decide +kernel
theorem dX0_rewriteCall_151 : decode cX0_rewriteCall 151 = .ok (.getfield 85, 3) := by decide +kernel
theorem dX0_rewriteCall_154 : decode cX0_rewriteCall 154 = .ok (.aload_n 0, 1) := by decide +kernel
theorem dX0_rewriteCall_155 : decode cX0_rewriteCall 155 = .ok (.iconst 0, 1) := by decide +kernel
theorem dX0_rewriteCall_156 : decode cX0_rewriteCall 156 = .ok (.invokevirtual 587, 3) := by decide +kernel
theorem dX0_rewriteCall_159 : decode cX0_rewriteCall 159 = .ok (.invokevirtual 862, 3) := by decide +kernel
theorem dX0_rewriteCall_162 : decode cX0_rewriteCall 162 = .ok (.i2l, 1) := by decide +kernel
theorem dX0_rewriteCall_163 : decode cX0_rewriteCall 163 = .ok (.lreturn, 1) := by decide +kernel
theorem dX0_rewriteCall_164 : decode cX0_rewriteCall 164 = .ok (.aload_n 0, 1) := by decide +kernel
theorem dX0_rewriteCall_165 : decode cX0_rewriteCall 165 = .ok (.getfield 85, 3) := by decide +kernel
theorem dX0_rewriteCall_168 : decode cX0_rewriteCall 168 = .ok (.aload_n 0, 1) := by decide +kernel
theorem dX0_rewriteCall_169 : decode cX0_rewriteCall 169 = .ok (.iconst 0, 1) := by decide +kernel
theorem dX0_rewriteCall_170 : decode cX0_rewriteCall 170 = .ok (.invokevirtual 587, 3) := by decide +kernel
theorem dX0_rewriteCall_173 : decode cX0_rewriteCall 173 = .ok (.aload_n 0, 1) := by decide +kernel
theorem dX0_rewriteCall_174 : decode cX0_rewriteCall 174 = .ok (.iconst 1, 1) := by decide +kernel
theorem dX0_rewriteCall_175 : decode cX0_rewriteCall 175 = .ok (.invokevirtual 626, 3) := by decide +kernel
theorem dX0_rewriteCall_178 : decode cX0_rewriteCall 178 = .ok (.aload_n 0, 1) := by decide +kernel
theorem dX0_rewriteCall_179 : decode cX0_rewriteCall 179 = .ok (.iconst 2, 1) := by decide +kernel
theorem dX0_rewriteCall_180 : decode cX0_rewriteCall 180 = .ok (.invokevirtual 587, 3) := by decide +kernel
theorem dX0_rewriteCall_183 : decode cX0_rewriteCall 183 = .ok (.aload_n 0, 1) := by decide +kernel
theorem dX0_rewriteCall_184 : decode cX0_rewriteCall 184 = .ok (.iconst 3, 1) := by decide +kernel
theorem dX0_rewriteCall_185 : decode cX0_rewriteCall 185 = .ok (.invokevirtual 587, 3) := by decide +kernel
theorem dX0_rewriteCall_188 : decode cX0_rewriteCall 188 = .ok (.aload_n 0, 1) := by decide +kernel
theorem dX0_rewriteCall_189 : decode cX0_rewriteCall 189 = .ok (.iconst 4, 1) := by decide +kernel
theorem dX0_rewriteCall_190 : decode cX0_rewriteCall 190 = .ok (.invokevirtual 587, 3) := by decide +kernel
theorem dX0_rewriteCall_193 : decode cX0_rewriteCall 193 = .ok (.invokevirtual 864, 3) := by decide +kernel
theorem dX0_rewriteCall_196 : decode cX0_rewriteCall 196 = .ok (.i2l, 1) := by decide +kernel
theorem dX0_rewriteCall_197 : decode cX0_rewriteCall 197 = .ok (.lreturn, 1) := by decide +kernel
theorem dX0_rewriteCall_198 : decode cX0_rewriteCall 198 = .ok (.aload_n 0, 1) := by decide +kernel
theorem dX0_rewriteCall_199 : decode cX0_rewriteCall 199 = .ok (.getfield 85, 3) := by decide +kernel
theorem dX0_rewriteCall_202 : decode cX0_rewriteCall 202 = .ok (.aload_n 0, 1) := by decide +kernel
theorem dX0_rewriteCall_203 : decode cX0_rewriteCall 203 = .ok (.iconst 0, 1) := by decide +kernel
theorem dX0_rewriteCall_204 : decode cX0_rewriteCall 204 = .ok (.invokevirtual 587, 3) := by decide +kernel
theorem dX0_rewriteCall_207 : decode cX0_rewriteCall 207 = .ok (.invokevirtual 867, 3) := by decide +kernel
theorem dX0_rewriteCall_210 : decode cX0_rewriteCall 210 = .ok (.i2l, 1) := by decide +kernel
theorem dX0_rewriteCall_211 : decode cX0_rewriteCall 211 = .ok (.lreturn, 1) := by decide +kernel
theorem dX0_rewriteCall_212 : decode cX0_rewriteCall 212 = .ok (.aload_n 0, 1) := by decide +kernel
theorem dX0_rewriteCall_213 : decode cX0_rewriteCall 213 = .ok (.getfield 85, 3) := by decide +kernel
theorem dX0_rewriteCall_216 : decode cX0_rewriteCall 216 = .ok (.aload_n 0, 1) := by decide +kernel
theorem dX0_rewriteCall_217 : decode cX0_rewriteCall 217 = .ok (.iconst 0, 1) := by decide +kernel
theorem dX0_rewriteCall_218 : decode cX0_rewriteCall 218 = .ok (.invokevirtual 587, 3) := by decide +kernel
theorem dX0_rewriteCall_221 : decode cX0_rewriteCall 221 = .ok (.aload_n 0, 1) := by decide +kernel
theorem dX0_rewriteCall_222 : decode cX0_rewriteCall 222 = .ok (.iconst 1, 1) := by decide +kernel
theorem dX0_rewriteCall_223 : decode cX0_rewriteCall 223 = .ok (.invokevirtual 587, 3) := by decide +kernel
theorem dX0_rewriteCall_226 : decode cX0_rewriteCall 226 = .ok (.aload_n 0, 1) := by decide +kernel
theorem dX0_rewriteCall_227 : decode cX0_rewriteCall 227 = .ok (.iconst 2, 1) := by decide +kernel
theorem dX0_rewriteCall_228 : decode cX0_rewriteCall 228 = .ok (.invokevirtual 587, 3) := by decide +kernel
theorem dX0_rewriteCall_231 : decode cX0_rewriteCall 231 = .ok (.invokevirtual 869, 3) := by decide +kernel
theorem dX0_rewriteCall_234 : decode cX0_rewriteCall 234 = .ok (.i2l, 1) := by decide +kernel
theorem dX0_rewriteCall_235 : decode cX0_rewriteCall 235 = .ok (.lreturn, 1) := by decide +kernel
theorem dX0_rewriteCall_236 : decode cX0_rewriteCall 236 = .ok (.aload_n 0, 1) := by decide +kernel
theorem dX0_rewriteCall_237 : decode cX0_rewriteCall 237 = .ok (.getfield 85, 3) := by decide +kernel
theorem dX0_rewriteCall_240 : decode cX0_rewriteCall 240 = .ok (.aload_n 0, 1) := by decide +kernel
theorem dX0_rewriteCall_241 : decode cX0_rewriteCall 241 = .ok (.iconst 0, 1) := by decide +kernel
theorem dX0_rewriteCall_242 : decode cX0_rewriteCall 242 = .ok (.invokevirtual 587, 3) := by decide +kernel
theorem dX0_rewriteCall_245 : decode cX0_rewriteCall 245 = .ok (.invokevirtual 871, 3) := by decide +kernel
theorem dX0_rewriteCall_248 : decode cX0_rewriteCall 248 = .ok (.i2l, 1) := by decide +kernel
theorem dX0_rewriteCall_249 : decode cX0_rewriteCall 249 = .ok (.lreturn, 1) := by decide +kernel
theorem dX0_rewriteCall_250 : decode cX0_rewriteCall 250 = .ok (.aload_n 0, 1) := by decide +kernel
theorem dX0_rewriteCall_251 : decode cX0_rewriteCall 251 = .ok (.getfield 85, 3) := by decide +kernel
theorem dX0_rewriteCall_254 : decode cX0_rewriteCall 254 = .ok (.aload_n 0, 1) := by decide +kernel
theorem dX0_rewriteCall_255 : decode cX0_rewriteCall 255 = .ok (.iconst 0, 1) := by decide +kernel
theorem dX0_rewriteCall_256 : decode cX0_rewriteCall 256 = .ok (.invokevirtual 587, 3) := by decide +kernel
theorem dX0_rewriteCall_259 : decode cX0_rewriteCall 259 = .ok (.aload_n 0, 1) := by decide +kernel
theorem dX0_rewriteCall_260 : decode cX0_rewriteCall 260 = .ok (.iconst 1, 1) := by decide +kernel
theorem dX0_rewriteCall_261 : decode cX0_rewriteCall 261 = .ok (.invokevirtual 587, 3) := by decide +kernel
theorem dX0_rewriteCall_264 : decode cX0_rewriteCall 264 = .ok (.invokevirtual 873, 3) := by decide +kernel
theorem dX0_rewriteCall_267 : decode cX0_rewriteCall 267 = .ok (.i2l, 1) := by decide +kernel
theorem dX0_rewriteCall_268 : decode cX0_rewriteCall 268 = .ok (.lreturn, 1) := by decide +kernel
theorem dX0_rewriteCall_269 : decode cX0_rewriteCall 269 = .ok (.aload_n 0, 1) := by decide +kernel
theorem dX0_rewriteCall_270 : decode cX0_rewriteCall 270 = .ok (.getfield 85, 3) := by decide +kernel
theorem dX0_rewriteCall_273 : decode cX0_rewriteCall 273 = .ok (.aload_n 0, 1) := by decide +kernel
theorem dX0_rewriteCall_274 : decode cX0_rewriteCall 274 = .ok (.iconst 0, 1) := by decide +kernel
theorem dX0_rewriteCall_275 : decode cX0_rewriteCall 275 = .ok (.invokevirtual 587, 3) := by decide +kernel
theorem dX0_rewriteCall_278 : decode cX0_rewriteCall 278 = .ok (.aload_n 0, 1) := by decide +kernel
theorem dX0_rewriteCall_279 : decode cX0_rewriteCall 279 = .ok (.iconst 1, 1) := by decide +kernel
theorem dX0_rewriteCall_280 : decode cX0_rewriteCall 280 = .ok (.invokevirtual 587, 3) := by decide +kernel
theorem dX0_rewriteCall_283 : decode cX0_rewriteCall 283 = .ok (.invokevirtual 875, 3) := by decide +kernel
theorem dX0_rewriteCall_286 : decode cX0_rewriteCall 286 = .ok (.i2l, 1) := by decide +kernel
theorem dX0_rewriteCall_287 : decode cX0_rewriteCall 287 = .ok (.lreturn, 1) := by decide +kernel
theorem dX0_rewriteCall_288 : decode cX0_rewriteCall 288 = .ok (.aload_n 0, 1) := by decide +kernel
theorem dX0_rewriteCall_289 : decode cX0_rewriteCall 289 = .ok (.getfield 85, 3) := by decide +kernel
theorem dX0_rewriteCall_292 : decode cX0_rewriteCall 292 = .ok (.invokevirtual 877, 3) := by decide +kernel
theorem dX0_rewriteCall_295 : decode cX0_rewriteCall 295 = .ok (.i2l, 1) := by decide +kernel
theorem dX0_rewriteCall_296 : decode cX0_rewriteCall 296 = .ok (.lreturn, 1) := by decide +kernel
theorem dX0_rewriteCall_297 : decode cX0_rewriteCall 297 = .ok (.aload_n 0, 1) := by decide +kernel
theorem dX0_rewriteCall_298 : decode cX0_rewriteCall 298 = .ok (.getfield 85, 3) := by decide +kernel
theorem dX0_rewriteCall_301 : decode cX0_rewriteCall 301 = .ok (.aload_n 0, 1) := by decide +kernel
theorem dX0_rewriteCall_302 : decode cX0_rewriteCall 302 = .ok (.iconst 0, 1) := by decide +kernel
theorem dX0_rewriteCall_303 : decode cX0_rewriteCall 303 = .ok (.invokevirtual 587, 3) := by decide +kernel
theorem dX0_rewriteCall_306 : decode cX0_rewriteCall 306 = .ok (.invokevirtual 878, 3) := by decide +kernel
theorem dX0_rewriteCall_309 : decode cX0_rewriteCall 309 = .ok (.i2l, 1) := by decide +kernel
theorem dX0_rewriteCall_310 : decode cX0_rewriteCall 310 = .ok (.lreturn, 1) := by decide +kernel
theorem dX0_rewriteCall_311 : decode cX0_rewriteCall 311 = .ok (.aload_n 0, 1) := by decide +kernel
theorem dX0_rewriteCall_312 : decode cX0_rewriteCall 312 = .ok (.getfield 85, 3) := by decide +kernel
theorem dX0_rewriteCall_315 : decode cX0_rewriteCall 315 = .ok (.invokevirtual 879, 3) := by decide +kernel
theorem dX0_rewriteCall_318 : decode cX0_rewriteCall 318 = .ok (.i2l, 1) := by decide +kernel
theorem dX0_rewriteCall_319 : decode cX0_rewriteCall 319 = .ok (.lreturn, 1) := by decide +kernel
theorem dX0_rewriteCall_320 : decode cX0_rewriteCall 320 = .ok (.ldc2_w 535, 3) := by decide +kernel
theorem dX0_rewriteCall_323 : decode cX0_rewriteCall 323 = .ok (.lreturn, 1) := by decide +kernel
abbrev cX0_diskCall : ByteArray := prog_1_method_37_code
def yX0_diskCall : MethodName := ⟨RX0, "diskCall", "(I)J"⟩
theorem dX0_diskCall_0 : decode cX0_diskCall 0 = .ok (.iload_n 1, 1) := by decide +kernel
theorem dX0_diskCall_1 : decode cX0_diskCall 1 = .ok (.tableswitch 231 0 10 #[59, 84, 98, 107, 126, 135, 159, 173, 187, 201, 215], 59) := by decide +kernel
theorem dX0_diskCall_60 : decode cX0_diskCall 60 = .ok (.aload_n 0, 1) := by decide +kernel
theorem dX0_diskCall_61 : decode cX0_diskCall 61 = .ok (.getfield 94, 3) := by decide +kernel
theorem dX0_diskCall_64 : decode cX0_diskCall 64 = .ok (.aload_n 0, 1) := by decide +kernel
theorem dX0_diskCall_65 : decode cX0_diskCall 65 = .ok (.iconst 0, 1) := by decide +kernel
theorem dX0_diskCall_66 : decode cX0_diskCall 66 = .ok (.invokevirtual 587, 3) := by decide +kernel
theorem dX0_diskCall_69 : decode cX0_diskCall 69 = .ok (.aload_n 0, 1) := by decide +kernel
theorem dX0_diskCall_70 : decode cX0_diskCall 70 = .ok (.iconst 1, 1) := by decide +kernel
theorem dX0_diskCall_71 : decode cX0_diskCall 71 = .ok (.invokevirtual 587, 3) := by decide +kernel
theorem dX0_diskCall_74 : decode cX0_diskCall 74 = .ok (.aload_n 0, 1) := by decide +kernel
theorem dX0_diskCall_75 : decode cX0_diskCall 75 = .ok (.getfield 109, 3) := by decide +kernel
theorem dX0_diskCall_78 : decode cX0_diskCall 78 = .ok (.iconst 2, 1) := by decide +kernel
theorem dX0_diskCall_79 : decode cX0_diskCall 79 = .ok (.laload, 1) := by decide +kernel
theorem dX0_diskCall_80 : decode cX0_diskCall 80 = .ok (.invokevirtual 880, 3) := by decide +kernel
theorem dX0_diskCall_83 : decode cX0_diskCall 83 = .ok (.i2l, 1) := by decide +kernel
theorem dX0_diskCall_84 : decode cX0_diskCall 84 = .ok (.lreturn, 1) := by decide +kernel
theorem dX0_diskCall_85 : decode cX0_diskCall 85 = .ok (.aload_n 0, 1) := by decide +kernel
theorem dX0_diskCall_86 : decode cX0_diskCall 86 = .ok (.getfield 94, 3) := by decide +kernel
theorem dX0_diskCall_89 : decode cX0_diskCall 89 = .ok (.aload_n 0, 1) := by decide +kernel
theorem dX0_diskCall_90 : decode cX0_diskCall 90 = .ok (.iconst 0, 1) := by decide +kernel
theorem dX0_diskCall_91 : decode cX0_diskCall 91 = .ok (.invokevirtual 587, 3) := by decide +kernel
theorem dX0_diskCall_94 : decode cX0_diskCall 94 = .ok (.invokevirtual 883, 3) := by decide +kernel
theorem dX0_diskCall_97 : decode cX0_diskCall 97 = .ok (.i2l, 1) := by decide +kernel
theorem dX0_diskCall_98 : decode cX0_diskCall 98 = .ok (.lreturn, 1) := by decide +kernel
theorem dX0_diskCall_99 : decode cX0_diskCall 99 = .ok (.aload_n 0, 1) := by decide +kernel
theorem dX0_diskCall_100 : decode cX0_diskCall 100 = .ok (.getfield 94, 3) := by decide +kernel
theorem dX0_diskCall_103 : decode cX0_diskCall 103 = .ok (.invokevirtual 884, 3) := by decide +kernel
theorem dX0_diskCall_106 : decode cX0_diskCall 106 = .ok (.i2l, 1) := by decide +kernel
theorem dX0_diskCall_107 : decode cX0_diskCall 107 = .ok (.lreturn, 1) := by decide +kernel
theorem dX0_diskCall_108 : decode cX0_diskCall 108 = .ok (.aload_n 0, 1) := by decide +kernel
theorem dX0_diskCall_109 : decode cX0_diskCall 109 = .ok (.getfield 94, 3) := by decide +kernel
theorem dX0_diskCall_112 : decode cX0_diskCall 112 = .ok (.aload_n 0, 1) := by decide +kernel
theorem dX0_diskCall_113 : decode cX0_diskCall 113 = .ok (.iconst 0, 1) := by decide +kernel
theorem dX0_diskCall_114 : decode cX0_diskCall 114 = .ok (.invokevirtual 587, 3) := by decide +kernel
theorem dX0_diskCall_117 : decode cX0_diskCall 117 = .ok (.aload_n 0, 1) := by decide +kernel
theorem dX0_diskCall_118 : decode cX0_diskCall 118 = .ok (.iconst 1, 1) := by decide +kernel
theorem dX0_diskCall_119 : decode cX0_diskCall 119 = .ok (.invokevirtual 587, 3) := by decide +kernel
theorem dX0_diskCall_122 : decode cX0_diskCall 122 = .ok (.invokevirtual 886, 3) := by decide +kernel
theorem dX0_diskCall_125 : decode cX0_diskCall 125 = .ok (.lconst 1, 1) := by decide +kernel
theorem dX0_diskCall_126 : decode cX0_diskCall 126 = .ok (.lreturn, 1) := by decide +kernel
theorem dX0_diskCall_127 : decode cX0_diskCall 127 = .ok (.aload_n 0, 1) := by decide +kernel
theorem dX0_diskCall_128 : decode cX0_diskCall 128 = .ok (.getfield 94, 3) := by decide +kernel
theorem dX0_diskCall_131 : decode cX0_diskCall 131 = .ok (.invokevirtual 888, 3) := by decide +kernel
theorem dX0_diskCall_134 : decode cX0_diskCall 134 = .ok (.i2l, 1) := by decide +kernel
theorem dX0_diskCall_135 : decode cX0_diskCall 135 = .ok (.lreturn, 1) := by decide +kernel
theorem dX0_diskCall_136 : decode cX0_diskCall 136 = .ok (.aload_n 0, 1) := by decide +kernel
theorem dX0_diskCall_137 : decode cX0_diskCall 137 = .ok (.getfield 94, 3) := by decide +kernel
theorem dX0_diskCall_140 : decode cX0_diskCall 140 = .ok (.aload_n 0, 1) := by decide +kernel
theorem dX0_diskCall_141 : decode cX0_diskCall 141 = .ok (.iconst 0, 1) := by decide +kernel
theorem dX0_diskCall_142 : decode cX0_diskCall 142 = .ok (.invokevirtual 587, 3) := by decide +kernel
theorem dX0_diskCall_145 : decode cX0_diskCall 145 = .ok (.aload_n 0, 1) := by decide +kernel
theorem dX0_diskCall_146 : decode cX0_diskCall 146 = .ok (.iconst 1, 1) := by decide +kernel
theorem dX0_diskCall_147 : decode cX0_diskCall 147 = .ok (.invokevirtual 587, 3) := by decide +kernel
theorem dX0_diskCall_150 : decode cX0_diskCall 150 = .ok (.aload_n 0, 1) := by decide +kernel
theorem dX0_diskCall_151 : decode cX0_diskCall 151 = .ok (.iconst 2, 1) := by decide +kernel
theorem dX0_diskCall_152 : decode cX0_diskCall 152 = .ok (.invokevirtual 587, 3) := by decide +kernel
theorem dX0_diskCall_155 : decode cX0_diskCall 155 = .ok (.invokevirtual 890, 3) := by decide +kernel
theorem dX0_diskCall_158 : decode cX0_diskCall 158 = .ok (.i2l, 1) := by decide +kernel
theorem dX0_diskCall_159 : decode cX0_diskCall 159 = .ok (.lreturn, 1) := by decide +kernel
theorem dX0_diskCall_160 : decode cX0_diskCall 160 = .ok (.aload_n 0, 1) := by decide +kernel
theorem dX0_diskCall_161 : decode cX0_diskCall 161 = .ok (.getfield 94, 3) := by decide +kernel
theorem dX0_diskCall_164 : decode cX0_diskCall 164 = .ok (.aload_n 0, 1) := by decide +kernel
theorem dX0_diskCall_165 : decode cX0_diskCall 165 = .ok (.iconst 0, 1) := by decide +kernel
theorem dX0_diskCall_166 : decode cX0_diskCall 166 = .ok (.invokevirtual 587, 3) := by decide +kernel
theorem dX0_diskCall_169 : decode cX0_diskCall 169 = .ok (.invokevirtual 892, 3) := by decide +kernel
theorem dX0_diskCall_172 : decode cX0_diskCall 172 = .ok (.i2l, 1) := by decide +kernel
theorem dX0_diskCall_173 : decode cX0_diskCall 173 = .ok (.lreturn, 1) := by decide +kernel
theorem dX0_diskCall_174 : decode cX0_diskCall 174 = .ok (.aload_n 0, 1) := by decide +kernel
theorem dX0_diskCall_175 : decode cX0_diskCall 175 = .ok (.getfield 94, 3) := by decide +kernel
theorem dX0_diskCall_178 : decode cX0_diskCall 178 = .ok (.aload_n 0, 1) := by decide +kernel
theorem dX0_diskCall_179 : decode cX0_diskCall 179 = .ok (.iconst 0, 1) := by decide +kernel
theorem dX0_diskCall_180 : decode cX0_diskCall 180 = .ok (.invokevirtual 587, 3) := by decide +kernel
theorem dX0_diskCall_183 : decode cX0_diskCall 183 = .ok (.invokevirtual 894, 3) := by decide +kernel
theorem dX0_diskCall_186 : decode cX0_diskCall 186 = .ok (.i2l, 1) := by decide +kernel
theorem dX0_diskCall_187 : decode cX0_diskCall 187 = .ok (.lreturn, 1) := by decide +kernel
theorem dX0_diskCall_188 : decode cX0_diskCall 188 = .ok (.aload_n 0, 1) := by decide +kernel
theorem dX0_diskCall_189 : decode cX0_diskCall 189 = .ok (.getfield 94, 3) := by decide +kernel
theorem dX0_diskCall_192 : decode cX0_diskCall 192 = .ok (.aload_n 0, 1) := by decide +kernel
theorem dX0_diskCall_193 : decode cX0_diskCall 193 = .ok (.iconst 0, 1) := by decide +kernel
theorem dX0_diskCall_194 : decode cX0_diskCall 194 = .ok (.invokevirtual 587, 3) := by decide +kernel
theorem dX0_diskCall_197 : decode cX0_diskCall 197 = .ok (.invokevirtual 896, 3) := by decide +kernel
theorem dX0_diskCall_200 : decode cX0_diskCall 200 = .ok (.i2l, 1) := by decide +kernel
theorem dX0_diskCall_201 : decode cX0_diskCall 201 = .ok (.lreturn, 1) := by decide +kernel
theorem dX0_diskCall_202 : decode cX0_diskCall 202 = .ok (.aload_n 0, 1) := by decide +kernel
theorem dX0_diskCall_203 : decode cX0_diskCall 203 = .ok (.getfield 94, 3) := by decide +kernel
theorem dX0_diskCall_206 : decode cX0_diskCall 206 = .ok (.aload_n 0, 1) := by decide +kernel
theorem dX0_diskCall_207 : decode cX0_diskCall 207 = .ok (.iconst 0, 1) := by decide +kernel
theorem dX0_diskCall_208 : decode cX0_diskCall 208 = .ok (.invokevirtual 587, 3) := by decide +kernel
theorem dX0_diskCall_211 : decode cX0_diskCall 211 = .ok (.invokevirtual 897, 3) := by decide +kernel
theorem dX0_diskCall_214 : decode cX0_diskCall 214 = .ok (.i2l, 1) := by decide +kernel
theorem dX0_diskCall_215 : decode cX0_diskCall 215 = .ok (.lreturn, 1) := by decide +kernel
theorem dX0_diskCall_216 : decode cX0_diskCall 216 = .ok (.aload_n 0, 1) := by decide +kernel
theorem dX0_diskCall_217 : decode cX0_diskCall 217 = .ok (.getfield 94, 3) := by decide +kernel
theorem dX0_diskCall_220 : decode cX0_diskCall 220 = .ok (.aload_n 0, 1) := by decide +kernel
theorem dX0_diskCall_221 : decode cX0_diskCall 221 = .ok (.iconst 0, 1) := by decide +kernel
theorem dX0_diskCall_222 : decode cX0_diskCall 222 = .ok (.invokevirtual 626, 3) := by decide +kernel
theorem dX0_diskCall_225 : decode cX0_diskCall 225 = .ok (.invokevirtual 899, 3) := by decide +kernel
theorem dX0_diskCall_228 : decode cX0_diskCall 228 = .ok (.invokestatic 637, 3) := by decide +kernel
theorem dX0_diskCall_231 : decode cX0_diskCall 231 = .ok (.lreturn, 1) := by decide +kernel
theorem dX0_diskCall_232 : decode cX0_diskCall 232 = .ok (.ldc2_w 535, 3) := by decide +kernel
theorem dX0_diskCall_235 : decode cX0_diskCall 235 = .ok (.lreturn, 1) := by decide +kernel
abbrev cX0_wrong : ByteArray := prog_1_method_54_code
def yX0_wrong : MethodName := ⟨RX0, "wrong", "()I"⟩
theorem dX0_wrong_0 : decode cX0_wrong 0 = .ok (.aload_n 0, 1) := by decide +kernel
theorem dX0_wrong_1 : decode cX0_wrong 1 = .ok (.getfield 120, 3) := by decide +kernel
theorem dX0_wrong_4 : decode cX0_wrong 4 = .ok (.ireturn, 1) := by decide +kernel
abbrev cX0_answers : ByteArray := prog_1_method_55_code
def yX0_answers : MethodName := ⟨RX0, "answers", "()I"⟩
theorem dX0_answers_0 : decode cX0_answers 0 = .ok (.aload_n 0, 1) := by decide +kernel
theorem dX0_answers_1 : decode cX0_answers 1 = .ok (.getfield 476, 3) := by decide +kernel
theorem dX0_answers_4 : decode cX0_answers 4 = .ok (.ireturn, 1) := by decide +kernel
abbrev cX0_answer : ByteArray := prog_1_method_56_code
def yX0_answer : MethodName := ⟨RX0, "answer", "(I)J"⟩
theorem dX0_answer_0 : decode cX0_answer 0 = .ok (.iload_n 1, 1) := by decide +kernel
theorem dX0_answer_1 : decode cX0_answer 1 = .ok (.ifCond .lt 20, 3) := by decide +kernel
theorem dX0_answer_4 : decode cX0_answer 4 = .ok (.iload_n 1, 1) := by decide +kernel
theorem dX0_answer_5 : decode cX0_answer 5 = .ok (.aload_n 0, 1) := by decide +kernel
theorem dX0_answer_6 : decode cX0_answer 6 = .ok (.getfield 476, 3) := by decide +kernel
theorem dX0_answer_9 : decode cX0_answer 9 = .ok (.if_icmp .ge 12, 3) := by decide +kernel
theorem dX0_answer_12 : decode cX0_answer 12 = .ok (.aload_n 0, 1) := by decide +kernel
theorem dX0_answer_13 : decode cX0_answer 13 = .ok (.getfield 113, 3) := by decide +kernel
theorem dX0_answer_16 : decode cX0_answer 16 = .ok (.iload_n 1, 1) := by decide +kernel
theorem dX0_answer_17 : decode cX0_answer 17 = .ok (.laload, 1) := by decide +kernel
theorem dX0_answer_18 : decode cX0_answer 18 = .ok (.goto 6, 3) := by decide +kernel
theorem dX0_answer_21 : decode cX0_answer 21 = .ok (.ldc2_w 535, 3) := by decide +kernel
theorem dX0_answer_24 : decode cX0_answer 24 = .ok (.lreturn, 1) := by decide +kernel
abbrev cX0_threw : ByteArray := prog_1_method_57_code
def yX0_threw : MethodName := ⟨RX0, "threw", "(I)Z"⟩
theorem dX0_threw_0 : decode cX0_threw 0 = .ok (.iload_n 1, 1) := by decide +kernel
theorem dX0_threw_1 : decode cX0_threw 1 = .ok (.ifCond .lt 24, 3) := by decide +kernel
theorem dX0_threw_4 : decode cX0_threw 4 = .ok (.iload_n 1, 1) := by decide +kernel
theorem dX0_threw_5 : decode cX0_threw 5 = .ok (.aload_n 0, 1) := by decide +kernel
theorem dX0_threw_6 : decode cX0_threw 6 = .ok (.getfield 476, 3) := by decide +kernel
theorem dX0_threw_9 : decode cX0_threw 9 = .ok (.if_icmp .ge 16, 3) := by decide +kernel
theorem dX0_threw_12 : decode cX0_threw 12 = .ok (.aload_n 0, 1) := by decide +kernel
theorem dX0_threw_13 : decode cX0_threw 13 = .ok (.getfield 116, 3) := by decide +kernel
theorem dX0_threw_16 : decode cX0_threw 16 = .ok (.iload_n 1, 1) := by decide +kernel
theorem dX0_threw_17 : decode cX0_threw 17 = .ok (.baload, 1) := by decide +kernel
theorem dX0_threw_18 : decode cX0_threw 18 = .ok (.ifCond .eq 7, 3) := by decide +kernel
theorem dX0_threw_21 : decode cX0_threw 21 = .ok (.iconst 1, 1) := by decide +kernel
theorem dX0_threw_22 : decode cX0_threw 22 = .ok (.goto 4, 3) := by decide +kernel
theorem dX0_threw_25 : decode cX0_threw 25 = .ok (.iconst 0, 1) := by decide +kernel
theorem dX0_threw_26 : decode cX0_threw 26 = .ok (.ireturn, 1) := by decide +kernel
abbrev cX0_entries : ByteArray := prog_1_method_58_code
def yX0_entries : MethodName := ⟨RX0, "entries", "()I"⟩
theorem dX0_entries_0 : decode cX0_entries 0 = .ok (.aload_n 0, 1) := by decide +kernel
theorem dX0_entries_1 : decode cX0_entries 1 = .ok (.getfield 922, 3) := by decide +kernel
theorem dX0_entries_4 : decode cX0_entries 4 = .ok (.ireturn, 1) := by decide +kernel
theorem in_X0 : ∀ w ∈ wsX00, w ∈ lw_all := lw_in wsX00 [2343, 2345, 2347, 2349, 2351, 2353, 2355, 2357, 2359, 2361, 2363, 2365, 2367, 2369, 2371, 2373, 2375, 2377, 2379, 2381, 2383, 2385, 2387, 2389, 2391] (by decide +kernel) (by decide +kernel)
def RX44 : String := "KnowHouse$Call"
def TX44 : u_T := fun k => match k with
  | 0 => ("KnowHouse$Call", "room", "I", true)
  | 1 => ("KnowHouse$Call", "number", "I", true)
  | 2 => ("KnowHouse$Call", "word", "Ljava/lang/String;", true)
  | _ => ("KnowHouse$Call", "kinds", "Ljava/lang/String;", true)
def tyX44 : Nat → FieldType := fun k => match k with
  | 0 => .int
  | 1 => .int
  | 2 => .object "java/lang/String"
  | _ => .object "java/lang/String"
abbrev wsX440 : List Cond := u_ws RX44 TX44 4
theorem nmX44 : ∀ a, a < 4 → ∀ b, b < 4 → a ≠ b → (TX44 a).2.1 ≠ (TX44 b).2.1 := by decide +kernel
theorem tyX44_ok : ∀ k, k < 4 → parseFieldDescriptor (TX44 k).2.2.1 = some (tyX44 k) := by decide +kernel
abbrev cX44_init : ByteArray := prog_2_method_1_code
def yX44_init : MethodName := ⟨RX44, "<init>", "(IILjava/lang/String;Ljava/lang/String;)V"⟩
theorem dX44_init_0 : decode cX44_init 0 = .ok (.aload_n 0, 1) := by decide +kernel
theorem dX44_init_1 : decode cX44_init 1 = .ok (.invokespecial 1, 3) := by decide +kernel
theorem dX44_init_4 : decode cX44_init 4 = .ok (.aload_n 0, 1) := by decide +kernel
theorem dX44_init_5 : decode cX44_init 5 = .ok (.iload_n 1, 1) := by decide +kernel
theorem dX44_init_6 : decode cX44_init 6 = .ok (.putfield 7, 3) := by decide +kernel
theorem dX44_init_9 : decode cX44_init 9 = .ok (.aload_n 0, 1) := by decide +kernel
theorem dX44_init_10 : decode cX44_init 10 = .ok (.iload_n 2, 1) := by decide +kernel
theorem dX44_init_11 : decode cX44_init 11 = .ok (.putfield 13, 3) := by decide +kernel
theorem dX44_init_14 : decode cX44_init 14 = .ok (.aload_n 0, 1) := by decide +kernel
theorem dX44_init_15 : decode cX44_init 15 = .ok (.aload_n 3, 1) := by decide +kernel
theorem dX44_init_16 : decode cX44_init 16 = .ok (.putfield 16, 3) := by decide +kernel
theorem dX44_init_19 : decode cX44_init 19 = .ok (.aload_n 0, 1) := by decide +kernel
theorem dX44_init_20 : decode cX44_init 20 = .ok (.aload 4, 2) := by decide +kernel
theorem dX44_init_22 : decode cX44_init 22 = .ok (.putfield 20, 3) := by decide +kernel
theorem dX44_init_25 : decode cX44_init 25 = .ok (.return_, 1) := by decide +kernel
theorem in_X44 : ∀ w ∈ wsX440, w ∈ lw_all := lw_in wsX440 [2123, 2125, 2127, 2129] (by decide +kernel) (by decide +kernel)
theorem q479 : (Jvm.Cond.initialized "KnowHouse") ∈ lw_all := lw_g (lw_at lw_m1 1 rfl) rfl
theorem q539 : (Jvm.Cond.initialized "KnowHouse$Call") ∈ lw_all := lw_g (lw_at lw_m1 61 rfl) rfl
theorem q601 : (Jvm.Cond.methodLink "KnowHouse" (1 : Nat) ({ cls := "java/lang/Object", name := "<init>", desc := "()V" } : Jvm.MethodName)) ∈ lw_all := lw_g (lw_at lw_m1 123 rfl) rfl
theorem q604 : (Jvm.Cond.classLink "KnowHouse" (7 : Nat) "java/util/ArrayList") ∈ lw_all := lw_g (lw_at lw_m1 126 rfl) rfl
theorem q606 : (Jvm.Cond.methodLink "KnowHouse" (9 : Nat) ({ cls := "java/util/ArrayList", name := "<init>", desc := "()V" } : Jvm.MethodName)) ∈ lw_all := lw_g (lw_at lw_m1 128 rfl) rfl
theorem q2059 : (Jvm.Cond.methodLink "KnowHouse" (129 : Nat) ({ cls := "java/util/ArrayList", name := "add", desc := "(Ljava/lang/Object;)Z" } : Jvm.MethodName)) ∈ lw_all := lw_g (lw_at lw_m7 141 rfl) rfl
theorem q2105 : (Jvm.Cond.methodLink "KnowHouse" (184 : Nat) ({ cls := "KnowHouse", name := "add", desc := "(IILjava/lang/String;Ljava/lang/String;)V" } : Jvm.MethodName)) ∈ lw_all := lw_g (lw_at lw_m7 187 rfl) rfl
theorem q2107 : (Jvm.Cond.instanceMethod ({ cls := "KnowHouse", name := "add", desc := "(IILjava/lang/String;Ljava/lang/String;)V" } : Jvm.MethodName)) ∈ lw_all := lw_g (lw_at lw_m7 189 rfl) rfl
theorem q2108 : (Jvm.Cond.code ({ cls := "KnowHouse", name := "add", desc := "(IILjava/lang/String;Ljava/lang/String;)V" } : Jvm.MethodName) prog_1_method_14_code (5 : Nat) (Option.none : Option Jvm.ClassFile.FieldType)) ∈ lw_all := lw_g (lw_at lw_m7 190 rfl) rfl
theorem q2109 : (Jvm.Cond.classLink "KnowHouse" (470 : Nat) "KnowHouse$Call") ∈ lw_all := lw_g (lw_at lw_m7 191 rfl) rfl
theorem q2110 : (Jvm.Cond.instantiable "KnowHouse$Call" (4 : Nat)) ∈ lw_all := lw_g (lw_at lw_m7 192 rfl) rfl
theorem q2111 : (Jvm.Cond.methodLink "KnowHouse" (472 : Nat) ({ cls := "KnowHouse$Call", name := "<init>", desc := "(IILjava/lang/String;Ljava/lang/String;)V" } : Jvm.MethodName)) ∈ lw_all := lw_g (lw_at lw_m7 193 rfl) rfl
theorem q2112 : (Jvm.Cond.instanceMethod ({ cls := "KnowHouse$Call", name := "<init>", desc := "(IILjava/lang/String;Ljava/lang/String;)V" } : Jvm.MethodName)) ∈ lw_all := lw_g (lw_at lw_m7 194 rfl) rfl
theorem q2113 : (Jvm.Cond.code ({ cls := "KnowHouse$Call", name := "<init>", desc := "(IILjava/lang/String;Ljava/lang/String;)V" } : Jvm.MethodName) prog_2_method_1_code (5 : Nat) (Option.none : Option Jvm.ClassFile.FieldType)) ∈ lw_all := lw_g (lw_at lw_m7 195 rfl) rfl
theorem q2114 : (Jvm.Cond.methodLink "KnowHouse$Call" (1 : Nat) ({ cls := "java/lang/Object", name := "<init>", desc := "()V" } : Jvm.MethodName)) ∈ lw_all := lw_g (lw_at lw_m7 196 rfl) rfl
theorem q2115 : (Jvm.Cond.fieldLink "KnowHouse$Call" (7 : Nat) "KnowHouse$Call" "room" "I") ∈ lw_all := lw_g (lw_at lw_m7 197 rfl) rfl
theorem q2116 : (Jvm.Cond.fieldLinkNest "KnowHouse" (509 : Nat) "KnowHouse$Call" "room" "I" "KnowHouse") ∈ lw_tbl := lw_at lw_m7 198 rfl
theorem q2117 : (Jvm.Cond.fieldLink "KnowHouse$Call" (13 : Nat) "KnowHouse$Call" "number" "I") ∈ lw_all := lw_g (lw_at lw_m7 199 rfl) rfl
theorem q2118 : (Jvm.Cond.fieldLinkNest "KnowHouse" (537 : Nat) "KnowHouse$Call" "number" "I" "KnowHouse") ∈ lw_tbl := lw_at lw_m7 200 rfl
theorem q2119 : (Jvm.Cond.fieldLink "KnowHouse$Call" (16 : Nat) "KnowHouse$Call" "word" "Ljava/lang/String;") ∈ lw_all := lw_g (lw_at lw_m7 201 rfl) rfl
theorem q2120 : (Jvm.Cond.fieldLinkNest "KnowHouse" (512 : Nat) "KnowHouse$Call" "word" "Ljava/lang/String;" "KnowHouse") ∈ lw_tbl := lw_at lw_m7 202 rfl
theorem q2121 : (Jvm.Cond.fieldLink "KnowHouse$Call" (20 : Nat) "KnowHouse$Call" "kinds" "Ljava/lang/String;") ∈ lw_all := lw_g (lw_at lw_m7 203 rfl) rfl
theorem q2122 : (Jvm.Cond.fieldLinkNest "KnowHouse" (516 : Nat) "KnowHouse$Call" "kinds" "Ljava/lang/String;" "KnowHouse") ∈ lw_tbl := lw_at lw_m7 204 rfl
theorem q2318 : (Jvm.Cond.fieldLink "KnowHouse" (10 : Nat) "KnowHouse" "roomNames" "Ljava/util/ArrayList;") ∈ lw_all := lw_g (lw_at lw_m8 160 rfl) rfl
theorem q2319 : (Jvm.Cond.fieldLink "KnowHouse" (16 : Nat) "KnowHouse" "calls" "Ljava/util/ArrayList;") ∈ lw_all := lw_g (lw_at lw_m8 161 rfl) rfl
theorem q2320 : (Jvm.Cond.fieldLink "KnowHouse" (22 : Nat) "KnowHouse" "names" "LKnowHouse$CanonNames;") ∈ lw_all := lw_g (lw_at lw_m8 162 rfl) rfl
theorem q2321 : (Jvm.Cond.fieldLink "KnowHouse" (29 : Nat) "KnowHouse" "versions" "LKnowHouse$VersionTrans;") ∈ lw_all := lw_g (lw_at lw_m8 163 rfl) rfl
theorem q2322 : (Jvm.Cond.fieldLink "KnowHouse" (36 : Nat) "KnowHouse" "values" "LKnowHouse$DatatypeValues;") ∈ lw_all := lw_g (lw_at lw_m8 164 rfl) rfl
theorem q2323 : (Jvm.Cond.fieldLink "KnowHouse" (43 : Nat) "KnowHouse" "proofs" "LKnowHouse$ProofChecker;") ∈ lw_all := lw_g (lw_at lw_m8 165 rfl) rfl
theorem q2324 : (Jvm.Cond.fieldLink "KnowHouse" (50 : Nat) "KnowHouse" "rights" "LKnowHouse$RightDesk;") ∈ lw_all := lw_g (lw_at lw_m8 166 rfl) rfl
theorem q2325 : (Jvm.Cond.fieldLink "KnowHouse" (57 : Nat) "KnowHouse" "classes" "LKnowHouse$ClassifySort;") ∈ lw_all := lw_g (lw_at lw_m8 167 rfl) rfl
theorem q2326 : (Jvm.Cond.fieldLink "KnowHouse" (64 : Nat) "KnowHouse" "facets" "LKnowHouse$FacetCounts;") ∈ lw_all := lw_g (lw_at lw_m8 168 rfl) rfl
theorem q2327 : (Jvm.Cond.fieldLink "KnowHouse" (71 : Nat) "KnowHouse" "tables" "LKnowHouse$VirtualRewrite;") ∈ lw_all := lw_g (lw_at lw_m8 169 rfl) rfl
theorem q2328 : (Jvm.Cond.fieldLink "KnowHouse" (78 : Nat) "KnowHouse" "rules" "LKnowHouse$RuleEngine;") ∈ lw_all := lw_g (lw_at lw_m8 170 rfl) rfl
theorem q2329 : (Jvm.Cond.fieldLink "KnowHouse" (85 : Nat) "KnowHouse" "rewrite" "LKnowHouse$QlRewrite;") ∈ lw_all := lw_g (lw_at lw_m8 171 rfl) rfl
theorem q2330 : (Jvm.Cond.fieldLink "KnowHouse" (94 : Nat) "KnowHouse" "disk" "LKnowHouse$KnowDisk;") ∈ lw_all := lw_g (lw_at lw_m8 172 rfl) rfl
theorem q2331 : (Jvm.Cond.fieldLink "KnowHouse" (98 : Nat) "KnowHouse" "tape" "[B") ∈ lw_all := lw_g (lw_at lw_m8 173 rfl) rfl
theorem q2332 : (Jvm.Cond.fieldLink "KnowHouse" (474 : Nat) "KnowHouse" "size" "I") ∈ lw_all := lw_g (lw_at lw_m8 174 rfl) rfl
theorem q2333 : (Jvm.Cond.fieldLink "KnowHouse" (102 : Nat) "KnowHouse" "begins" "[I") ∈ lw_all := lw_g (lw_at lw_m8 175 rfl) rfl
theorem q2334 : (Jvm.Cond.fieldLink "KnowHouse" (106 : Nat) "KnowHouse" "ends" "[I") ∈ lw_all := lw_g (lw_at lw_m8 176 rfl) rfl
theorem q2335 : (Jvm.Cond.fieldLink "KnowHouse" (483 : Nat) "KnowHouse" "words" "I") ∈ lw_all := lw_g (lw_at lw_m8 177 rfl) rfl
theorem q2336 : (Jvm.Cond.fieldLink "KnowHouse" (109 : Nat) "KnowHouse" "args" "[J") ∈ lw_all := lw_g (lw_at lw_m8 178 rfl) rfl
theorem q2337 : (Jvm.Cond.fieldLink "KnowHouse" (113 : Nat) "KnowHouse" "answers" "[J") ∈ lw_all := lw_g (lw_at lw_m8 179 rfl) rfl
theorem q2338 : (Jvm.Cond.fieldLink "KnowHouse" (116 : Nat) "KnowHouse" "threw" "[Z") ∈ lw_all := lw_g (lw_at lw_m8 180 rfl) rfl
theorem q2339 : (Jvm.Cond.fieldLink "KnowHouse" (476 : Nat) "KnowHouse" "done" "I") ∈ lw_all := lw_g (lw_at lw_m8 181 rfl) rfl
theorem q2340 : (Jvm.Cond.fieldLink "KnowHouse" (120 : Nat) "KnowHouse" "wrong" "I") ∈ lw_all := lw_g (lw_at lw_m8 182 rfl) rfl
theorem q2341 : (Jvm.Cond.fieldLink "KnowHouse" (124 : Nat) "KnowHouse" "entries" "[I") ∈ lw_all := lw_g (lw_at lw_m8 183 rfl) rfl
theorem q2342 : (Jvm.Cond.fieldLink "KnowHouse" (922 : Nat) "KnowHouse" "entryCount" "I") ∈ lw_all := lw_g (lw_at lw_m8 184 rfl) rfl
theorem q2402 : (Jvm.Cond.methodLink "KnowHouse" (479 : Nat) ({ cls := "KnowHouse", name := "split", desc := "(II)V" } : Jvm.MethodName)) ∈ lw_all := lw_g (lw_at lw_m9 4 rfl) rfl
theorem q2404 : (Jvm.Cond.instanceMethod ({ cls := "KnowHouse", name := "split", desc := "(II)V" } : Jvm.MethodName)) ∈ lw_all := lw_g (lw_at lw_m9 6 rfl) rfl
theorem q2405 : (Jvm.Cond.code ({ cls := "KnowHouse", name := "split", desc := "(II)V" } : Jvm.MethodName) prog_1_method_17_code (4 : Nat) (Option.none : Option Jvm.ClassFile.FieldType)) ∈ lw_all := lw_g (lw_at lw_m9 7 rfl) rfl
theorem q2406 : (Jvm.Cond.methodLink "KnowHouse" (486 : Nat) ({ cls := "KnowHouse", name := "act", desc := "()I" } : Jvm.MethodName)) ∈ lw_all := lw_g (lw_at lw_m9 8 rfl) rfl
theorem q2408 : (Jvm.Cond.instanceMethod ({ cls := "KnowHouse", name := "act", desc := "()I" } : Jvm.MethodName)) ∈ lw_all := lw_g (lw_at lw_m9 10 rfl) rfl
theorem q2409 : (Jvm.Cond.code ({ cls := "KnowHouse", name := "act", desc := "()I" } : Jvm.MethodName) prog_1_method_19_code (6 : Nat) (Option.some Jvm.ClassFile.FieldType.int)) ∈ lw_all := lw_g (lw_at lw_m9 11 rfl) rfl
theorem q2410 : (Jvm.Cond.methodLink "KnowHouse" (499 : Nat) ({ cls := "java/util/ArrayList", name := "size", desc := "()I" } : Jvm.MethodName)) ∈ lw_all := lw_g (lw_at lw_m9 12 rfl) rfl
theorem q2414 : (Jvm.Cond.methodLink "KnowHouse" (501 : Nat) ({ cls := "java/util/ArrayList", name := "get", desc := "(I)Ljava/lang/Object;" } : Jvm.MethodName)) ∈ lw_all := lw_g (lw_at lw_m9 16 rfl) rfl
theorem q2428 : (Jvm.Cond.classLink "KnowHouse" (491 : Nat) "java/lang/String") ∈ lw_all := lw_g (lw_at lw_m9 30 rfl) rfl
theorem q2429 : (Jvm.Cond.methodLink "KnowHouse" (505 : Nat) ({ cls := "KnowHouse", name := "isWord", desc := "(ILjava/lang/String;)Z" } : Jvm.MethodName)) ∈ lw_all := lw_g (lw_at lw_m9 31 rfl) rfl
theorem q2431 : (Jvm.Cond.instanceMethod ({ cls := "KnowHouse", name := "isWord", desc := "(ILjava/lang/String;)Z" } : Jvm.MethodName)) ∈ lw_all := lw_g (lw_at lw_m9 33 rfl) rfl
theorem q2432 : (Jvm.Cond.code ({ cls := "KnowHouse", name := "isWord", desc := "(ILjava/lang/String;)Z" } : Jvm.MethodName) prog_1_method_18_code (5 : Nat) (Option.some Jvm.ClassFile.FieldType.boolean)) ∈ lw_all := lw_g (lw_at lw_m9 34 rfl) rfl
theorem q2433 : (Jvm.Cond.methodLink "KnowHouse" (490 : Nat) ({ cls := "java/lang/String", name := "length", desc := "()I" } : Jvm.MethodName)) ∈ lw_all := lw_g (lw_at lw_m9 35 rfl) rfl
theorem q2443 : (Jvm.Cond.methodLink "KnowHouse" (495 : Nat) ({ cls := "java/lang/String", name := "charAt", desc := "(I)C" } : Jvm.MethodName)) ∈ lw_all := lw_g (lw_at lw_m9 45 rfl) rfl
theorem q2479 : (Jvm.Cond.methodLink "KnowHouse" (519 : Nat) ({ cls := "KnowHouse", name := "reads", desc := "(IC)Z" } : Jvm.MethodName)) ∈ lw_all := lw_g (lw_at lw_m9 81 rfl) rfl
theorem q2481 : (Jvm.Cond.instanceMethod ({ cls := "KnowHouse", name := "reads", desc := "(IC)Z" } : Jvm.MethodName)) ∈ lw_all := lw_g (lw_at lw_m9 83 rfl) rfl
theorem q2482 : (Jvm.Cond.code ({ cls := "KnowHouse", name := "reads", desc := "(IC)Z" } : Jvm.MethodName) prog_1_method_21_code (9 : Nat) (Option.some Jvm.ClassFile.FieldType.boolean)) ∈ lw_all := lw_g (lw_at lw_m9 84 rfl) rfl
theorem q2483 : (Jvm.Cond.methodLink "KnowHouse" (527 : Nat) ({ cls := "KnowHouse", name := "isDigit", desc := "(I)Z" } : Jvm.MethodName)) ∈ lw_all := lw_g (lw_at lw_m9 85 rfl) rfl
theorem q2484 : (Jvm.Cond.static ({ cls := "KnowHouse", name := "isDigit", desc := "(I)Z" } : Jvm.MethodName)) ∈ lw_all := lw_g (lw_at lw_m9 86 rfl) rfl
theorem q2485 : (Jvm.Cond.code ({ cls := "KnowHouse", name := "isDigit", desc := "(I)Z" } : Jvm.MethodName) prog_1_method_20_code (1 : Nat) (Option.some Jvm.ClassFile.FieldType.boolean)) ∈ lw_all := lw_g (lw_at lw_m9 87 rfl) rfl
theorem q2486 : (Jvm.Cond.constantLong "KnowHouse" (531 : Nat) (10 : Int64)) ∈ lw_all := lw_g (lw_at lw_m9 88 rfl) rfl
theorem q2487 : (Jvm.Cond.constantLong "KnowHouse" (533 : Nat) (48 : Int64)) ∈ lw_all := lw_g (lw_at lw_m9 89 rfl) rfl
theorem q2488 : (Jvm.Cond.methodLink "KnowHouse" (523 : Nat) ({ cls := "KnowHouse", name := "give", desc := "(LKnowHouse$Call;)V" } : Jvm.MethodName)) ∈ lw_all := lw_g (lw_at lw_m9 90 rfl) rfl
theorem q2490 : (Jvm.Cond.instanceMethod ({ cls := "KnowHouse", name := "give", desc := "(LKnowHouse$Call;)V" } : Jvm.MethodName)) ∈ lw_all := lw_g (lw_at lw_m9 92 rfl) rfl
theorem q2491 : (Jvm.Cond.codeWith ({ cls := "KnowHouse", name := "give", desc := "(LKnowHouse$Call;)V" } : Jvm.MethodName) prog_1_method_22_code (6 : Nat) (Option.none : Option Jvm.ClassFile.FieldType) [((7 : Nat), (20 : Nat), (23 : Nat), (544 : Nat)), ((7 : Nat), (20 : Nat), (31 : Nat), (546 : Nat))]) ∈ lw_all := lw_g (lw_at lw_m9 93 rfl) rfl
theorem q2492 : (Jvm.Cond.classLink "KnowHouse" (544 : Nat) "java/lang/IllegalArgumentException") ∈ lw_all := lw_g (lw_at lw_m9 94 rfl) rfl
theorem q2493 : (Jvm.Cond.classLink "KnowHouse" (546 : Nat) "java/lang/IllegalStateException") ∈ lw_all := lw_g (lw_at lw_m9 95 rfl) rfl
theorem q2494 : (Jvm.Cond.constantLong "KnowHouse" (535 : Nat) (-1 : Int64)) ∈ lw_all := lw_g (lw_at lw_m9 96 rfl) rfl
theorem q2495 : (Jvm.Cond.methodLink "KnowHouse" (540 : Nat) ({ cls := "KnowHouse", name := "called", desc := "(II)J" } : Jvm.MethodName)) ∈ lw_all := lw_g (lw_at lw_m9 97 rfl) rfl
theorem q2497 : (Jvm.Cond.instanceMethod ({ cls := "KnowHouse", name := "called", desc := "(II)J" } : Jvm.MethodName)) ∈ lw_all := lw_g (lw_at lw_m9 99 rfl) rfl
theorem q2498 : (Jvm.Cond.code ({ cls := "KnowHouse", name := "called", desc := "(II)J" } : Jvm.MethodName) prog_1_method_26_code (3 : Nat) (Option.some Jvm.ClassFile.FieldType.long)) ∈ lw_all := lw_g (lw_at lw_m9 100 rfl) rfl
theorem q2499 : (Jvm.Cond.methodLink "KnowHouse" (548 : Nat) ({ cls := "KnowHouse", name := "houseCall", desc := "(I)J" } : Jvm.MethodName)) ∈ lw_all := lw_g (lw_at lw_m9 101 rfl) rfl
theorem q2501 : (Jvm.Cond.instanceMethod ({ cls := "KnowHouse", name := "houseCall", desc := "(I)J" } : Jvm.MethodName)) ∈ lw_all := lw_g (lw_at lw_m9 103 rfl) rfl
theorem q2502 : (Jvm.Cond.code ({ cls := "KnowHouse", name := "houseCall", desc := "(I)J" } : Jvm.MethodName) prog_1_method_38_code (2 : Nat) (Option.some Jvm.ClassFile.FieldType.long)) ∈ lw_all := lw_g (lw_at lw_m9 104 rfl) rfl
theorem q2503 : (Jvm.Cond.methodLink "KnowHouse" (587 : Nat) ({ cls := "KnowHouse", name := "num", desc := "(I)I" } : Jvm.MethodName)) ∈ lw_all := lw_g (lw_at lw_m9 105 rfl) rfl
theorem q2505 : (Jvm.Cond.instanceMethod ({ cls := "KnowHouse", name := "num", desc := "(I)I" } : Jvm.MethodName)) ∈ lw_all := lw_g (lw_at lw_m9 107 rfl) rfl
theorem q2506 : (Jvm.Cond.code ({ cls := "KnowHouse", name := "num", desc := "(I)I" } : Jvm.MethodName) prog_1_method_23_code (2 : Nat) (Option.some Jvm.ClassFile.FieldType.int)) ∈ lw_all := lw_g (lw_at lw_m9 108 rfl) rfl
theorem q2507 : (Jvm.Cond.methodLink "KnowHouse" (626 : Nat) ({ cls := "KnowHouse", name := "flag", desc := "(I)Z" } : Jvm.MethodName)) ∈ lw_all := lw_g (lw_at lw_m9 109 rfl) rfl
theorem q2509 : (Jvm.Cond.instanceMethod ({ cls := "KnowHouse", name := "flag", desc := "(I)Z" } : Jvm.MethodName)) ∈ lw_all := lw_g (lw_at lw_m9 111 rfl) rfl
theorem q2510 : (Jvm.Cond.code ({ cls := "KnowHouse", name := "flag", desc := "(I)Z" } : Jvm.MethodName) prog_1_method_24_code (2 : Nat) (Option.some Jvm.ClassFile.FieldType.boolean)) ∈ lw_all := lw_g (lw_at lw_m9 112 rfl) rfl
theorem q2511 : (Jvm.Cond.methodLink "KnowHouse" (902 : Nat) ({ cls := "KnowHouse", name := "say", desc := "(IIZ)I" } : Jvm.MethodName)) ∈ lw_all := lw_g (lw_at lw_m9 113 rfl) rfl
theorem q2513 : (Jvm.Cond.instanceMethod ({ cls := "KnowHouse", name := "say", desc := "(IIZ)I" } : Jvm.MethodName)) ∈ lw_all := lw_g (lw_at lw_m9 115 rfl) rfl
theorem q2514 : (Jvm.Cond.code ({ cls := "KnowHouse", name := "say", desc := "(IIZ)I" } : Jvm.MethodName) prog_1_method_44_code (7 : Nat) (Option.some Jvm.ClassFile.FieldType.int)) ∈ lw_all := lw_g (lw_at lw_m9 116 rfl) rfl
theorem q2515 : (Jvm.Cond.methodLink "KnowHouse" (654 : Nat) ({ cls := "KnowHouse$VersionTrans", name := "latest", desc := "()I" } : Jvm.MethodName)) ∈ lw_all := lw_g (lw_at lw_m9 117 rfl) rfl
theorem q2516 : (Jvm.Cond.instanceMethod ({ cls := "KnowHouse$VersionTrans", name := "latest", desc := "()I" } : Jvm.MethodName)) ∈ lw_all := lw_g (lw_at lw_m9 118 rfl) rfl
theorem q2517 : (Jvm.Cond.selects "KnowHouse$VersionTrans" ({ cls := "KnowHouse$VersionTrans", name := "latest", desc := "()I" } : Jvm.MethodName) ({ cls := "KnowHouse$VersionTrans", name := "latest", desc := "()I" } : Jvm.MethodName)) ∈ lw_all := lw_g (lw_at lw_m9 119 rfl) rfl
theorem q2518 : (Jvm.Cond.code ({ cls := "KnowHouse$VersionTrans", name := "latest", desc := "()I" } : Jvm.MethodName) prog_65_method_31_code (1 : Nat) (Option.some Jvm.ClassFile.FieldType.int)) ∈ lw_all := lw_g (lw_at lw_m9 120 rfl) rfl
theorem q2519 : (Jvm.Cond.methodLink "KnowHouse" (927 : Nat) ({ cls := "KnowHouse", name := "head", desc := "(I)I" } : Jvm.MethodName)) ∈ lw_all := lw_g (lw_at lw_m9 121 rfl) rfl
theorem q2520 : (Jvm.Cond.static ({ cls := "KnowHouse", name := "head", desc := "(I)I" } : Jvm.MethodName)) ∈ lw_all := lw_g (lw_at lw_m9 122 rfl) rfl
theorem q2521 : (Jvm.Cond.code ({ cls := "KnowHouse", name := "head", desc := "(I)I" } : Jvm.MethodName) prog_1_method_40_code (1 : Nat) (Option.some Jvm.ClassFile.FieldType.int)) ∈ lw_all := lw_g (lw_at lw_m9 123 rfl) rfl
theorem q2522 : (Jvm.Cond.methodLink "KnowHouse" (930 : Nat) ({ cls := "KnowHouse", name := "value", desc := "(I)I" } : Jvm.MethodName)) ∈ lw_all := lw_g (lw_at lw_m9 124 rfl) rfl
theorem q2523 : (Jvm.Cond.static ({ cls := "KnowHouse", name := "value", desc := "(I)I" } : Jvm.MethodName)) ∈ lw_all := lw_g (lw_at lw_m9 125 rfl) rfl
theorem q2524 : (Jvm.Cond.code ({ cls := "KnowHouse", name := "value", desc := "(I)I" } : Jvm.MethodName) prog_1_method_41_code (1 : Nat) (Option.some Jvm.ClassFile.FieldType.int)) ∈ lw_all := lw_g (lw_at lw_m9 126 rfl) rfl
theorem q2525 : (Jvm.Cond.methodLink "KnowHouse" (723 : Nat) ({ cls := "KnowHouse$RightDesk", name := "may", desc := "(IIIIII)I" } : Jvm.MethodName)) ∈ lw_all := lw_g (lw_at lw_m9 127 rfl) rfl
theorem q2526 : (Jvm.Cond.instanceMethod ({ cls := "KnowHouse$RightDesk", name := "may", desc := "(IIIIII)I" } : Jvm.MethodName)) ∈ lw_all := lw_g (lw_at lw_m9 128 rfl) rfl
theorem q2527 : (Jvm.Cond.selects "KnowHouse$RightDesk" ({ cls := "KnowHouse$RightDesk", name := "may", desc := "(IIIIII)I" } : Jvm.MethodName) ({ cls := "KnowHouse$RightDesk", name := "may", desc := "(IIIIII)I" } : Jvm.MethodName)) ∈ lw_all := lw_g (lw_at lw_m9 129 rfl) rfl
theorem q2528 : (Jvm.Cond.code ({ cls := "KnowHouse$RightDesk", name := "may", desc := "(IIIIII)I" } : Jvm.MethodName) prog_49_method_15_code (9 : Nat) (Option.some Jvm.ClassFile.FieldType.int)) ∈ lw_all := lw_g (lw_at lw_m9 130 rfl) rfl
theorem q2591 : (Jvm.Cond.methodLink "KnowHouse" (932 : Nat) ({ cls := "KnowHouse", name := "begun", desc := "()I" } : Jvm.MethodName)) ∈ lw_all := lw_g (lw_at lw_m9 193 rfl) rfl
theorem q2593 : (Jvm.Cond.instanceMethod ({ cls := "KnowHouse", name := "begun", desc := "()I" } : Jvm.MethodName)) ∈ lw_all := lw_g (lw_at lw_m9 195 rfl) rfl
theorem q2594 : (Jvm.Cond.codeWith ({ cls := "KnowHouse", name := "begun", desc := "()I" } : Jvm.MethodName) prog_1_method_45_code (2 : Nat) (Option.some Jvm.ClassFile.FieldType.int) [((0 : Nat), (7 : Nat), (8 : Nat), (546 : Nat))]) ∈ lw_all := lw_g (lw_at lw_m9 196 rfl) rfl
theorem q2595 : (Jvm.Cond.methodLink "KnowHouse" (622 : Nat) ({ cls := "KnowHouse$VersionTrans", name := "begin", desc := "()I" } : Jvm.MethodName)) ∈ lw_all := lw_g (lw_at lw_m9 197 rfl) rfl
theorem q2596 : (Jvm.Cond.instanceMethod ({ cls := "KnowHouse$VersionTrans", name := "begin", desc := "()I" } : Jvm.MethodName)) ∈ lw_all := lw_g (lw_at lw_m9 198 rfl) rfl
theorem q2597 : (Jvm.Cond.selects "KnowHouse$VersionTrans" ({ cls := "KnowHouse$VersionTrans", name := "begin", desc := "()I" } : Jvm.MethodName) ({ cls := "KnowHouse$VersionTrans", name := "begin", desc := "()I" } : Jvm.MethodName)) ∈ lw_all := lw_g (lw_at lw_m9 199 rfl) rfl
theorem q2598 : (Jvm.Cond.code ({ cls := "KnowHouse$VersionTrans", name := "begin", desc := "()I" } : Jvm.MethodName) prog_65_method_8_code (1 : Nat) (Option.some Jvm.ClassFile.FieldType.int)) ∈ lw_all := lw_g (lw_at lw_m9 200 rfl) rfl
theorem q2673 : (Jvm.Cond.methodLink "KnowHouse" (629 : Nat) ({ cls := "KnowHouse$VersionTrans", name := "put", desc := "(IIZ)I" } : Jvm.MethodName)) ∈ lw_all := lw_g (lw_at lw_m10 35 rfl) rfl
theorem q2674 : (Jvm.Cond.instanceMethod ({ cls := "KnowHouse$VersionTrans", name := "put", desc := "(IIZ)I" } : Jvm.MethodName)) ∈ lw_all := lw_g (lw_at lw_m10 36 rfl) rfl
theorem q2675 : (Jvm.Cond.selects "KnowHouse$VersionTrans" ({ cls := "KnowHouse$VersionTrans", name := "put", desc := "(IIZ)I" } : Jvm.MethodName) ({ cls := "KnowHouse$VersionTrans", name := "put", desc := "(IIZ)I" } : Jvm.MethodName)) ∈ lw_all := lw_g (lw_at lw_m10 37 rfl) rfl
theorem q2676 : (Jvm.Cond.code ({ cls := "KnowHouse$VersionTrans", name := "put", desc := "(IIZ)I" } : Jvm.MethodName) prog_65_method_12_code (6 : Nat) (Option.some Jvm.ClassFile.FieldType.int)) ∈ lw_all := lw_g (lw_at lw_m10 38 rfl) rfl
theorem q2757 : (Jvm.Cond.methodLink "KnowHouse" (644 : Nat) ({ cls := "KnowHouse$VersionTrans", name := "abort", desc := "(I)I" } : Jvm.MethodName)) ∈ lw_all := lw_g (lw_at lw_m10 119 rfl) rfl
theorem q2758 : (Jvm.Cond.instanceMethod ({ cls := "KnowHouse$VersionTrans", name := "abort", desc := "(I)I" } : Jvm.MethodName)) ∈ lw_all := lw_g (lw_at lw_m10 120 rfl) rfl
theorem q2759 : (Jvm.Cond.selects "KnowHouse$VersionTrans" ({ cls := "KnowHouse$VersionTrans", name := "abort", desc := "(I)I" } : Jvm.MethodName) ({ cls := "KnowHouse$VersionTrans", name := "abort", desc := "(I)I" } : Jvm.MethodName)) ∈ lw_all := lw_g (lw_at lw_m10 121 rfl) rfl
theorem q2760 : (Jvm.Cond.code ({ cls := "KnowHouse$VersionTrans", name := "abort", desc := "(I)I" } : Jvm.MethodName) prog_65_method_24_code (5 : Nat) (Option.some Jvm.ClassFile.FieldType.int)) ∈ lw_all := lw_g (lw_at lw_m10 122 rfl) rfl
theorem q2770 : (Jvm.Cond.methodLink "KnowHouse" (642 : Nat) ({ cls := "KnowHouse$VersionTrans", name := "commit", desc := "(I)I" } : Jvm.MethodName)) ∈ lw_all := lw_g (lw_at lw_m10 132 rfl) rfl
theorem q2771 : (Jvm.Cond.instanceMethod ({ cls := "KnowHouse$VersionTrans", name := "commit", desc := "(I)I" } : Jvm.MethodName)) ∈ lw_all := lw_g (lw_at lw_m10 133 rfl) rfl
theorem q2772 : (Jvm.Cond.selects "KnowHouse$VersionTrans" ({ cls := "KnowHouse$VersionTrans", name := "commit", desc := "(I)I" } : Jvm.MethodName) ({ cls := "KnowHouse$VersionTrans", name := "commit", desc := "(I)I" } : Jvm.MethodName)) ∈ lw_all := lw_g (lw_at lw_m10 134 rfl) rfl
theorem q2773 : (Jvm.Cond.code ({ cls := "KnowHouse$VersionTrans", name := "commit", desc := "(I)I" } : Jvm.MethodName) prog_65_method_23_code (4 : Nat) (Option.some Jvm.ClassFile.FieldType.int)) ∈ lw_all := lw_g (lw_at lw_m10 135 rfl) rfl
theorem q2822 : (Jvm.Cond.methodLink "KnowHouse" (935 : Nat) ({ cls := "KnowHouse", name := "tell", desc := "(IZ)I" } : Jvm.MethodName)) ∈ lw_all := lw_g (lw_at lw_m10 184 rfl) rfl
theorem q2824 : (Jvm.Cond.instanceMethod ({ cls := "KnowHouse", name := "tell", desc := "(IZ)I" } : Jvm.MethodName)) ∈ lw_all := lw_g (lw_at lw_m10 186 rfl) rfl
theorem q2825 : (Jvm.Cond.code ({ cls := "KnowHouse", name := "tell", desc := "(IZ)I" } : Jvm.MethodName) prog_1_method_43_code (4 : Nat) (Option.some Jvm.ClassFile.FieldType.int)) ∈ lw_all := lw_g (lw_at lw_m10 187 rfl) rfl
theorem q2826 : (Jvm.Cond.methodLink "KnowHouse" (925 : Nat) ({ cls := "KnowHouse", name := "thing", desc := "(I)I" } : Jvm.MethodName)) ∈ lw_all := lw_g (lw_at lw_m10 188 rfl) rfl
theorem q2827 : (Jvm.Cond.static ({ cls := "KnowHouse", name := "thing", desc := "(I)I" } : Jvm.MethodName)) ∈ lw_all := lw_g (lw_at lw_m10 189 rfl) rfl
theorem q2828 : (Jvm.Cond.code ({ cls := "KnowHouse", name := "thing", desc := "(I)I" } : Jvm.MethodName) prog_1_method_39_code (1 : Nat) (Option.some Jvm.ClassFile.FieldType.int)) ∈ lw_all := lw_g (lw_at lw_m10 190 rfl) rfl
theorem q2829 : (Jvm.Cond.methodLink "KnowHouse" (781 : Nat) ({ cls := "KnowHouse$FacetCounts", name := "row", desc := "(III)I" } : Jvm.MethodName)) ∈ lw_all := lw_g (lw_at lw_m10 191 rfl) rfl
theorem q2830 : (Jvm.Cond.instanceMethod ({ cls := "KnowHouse$FacetCounts", name := "row", desc := "(III)I" } : Jvm.MethodName)) ∈ lw_all := lw_g (lw_at lw_m10 192 rfl) rfl
theorem q2831 : (Jvm.Cond.selects "KnowHouse$FacetCounts" ({ cls := "KnowHouse$FacetCounts", name := "row", desc := "(III)I" } : Jvm.MethodName) ({ cls := "KnowHouse$FacetCounts", name := "row", desc := "(III)I" } : Jvm.MethodName)) ∈ lw_all := lw_g (lw_at lw_m10 193 rfl) rfl
theorem q2832 : (Jvm.Cond.code ({ cls := "KnowHouse$FacetCounts", name := "row", desc := "(III)I" } : Jvm.MethodName) prog_20_method_9_code (5 : Nat) (Option.some Jvm.ClassFile.FieldType.int)) ∈ lw_all := lw_g (lw_at lw_m10 194 rfl) rfl
theorem q2855 : (Jvm.Cond.methodLink "KnowHouse" (828 : Nat) ({ cls := "KnowHouse$RuleEngine", name := "fact", desc := "(III)I" } : Jvm.MethodName)) ∈ lw_all := lw_g (lw_at lw_m10 217 rfl) rfl
theorem q2856 : (Jvm.Cond.instanceMethod ({ cls := "KnowHouse$RuleEngine", name := "fact", desc := "(III)I" } : Jvm.MethodName)) ∈ lw_all := lw_g (lw_at lw_m10 218 rfl) rfl
theorem q2857 : (Jvm.Cond.selects "KnowHouse$RuleEngine" ({ cls := "KnowHouse$RuleEngine", name := "fact", desc := "(III)I" } : Jvm.MethodName) ({ cls := "KnowHouse$RuleEngine", name := "fact", desc := "(III)I" } : Jvm.MethodName)) ∈ lw_all := lw_g (lw_at lw_m10 219 rfl) rfl
theorem q2858 : (Jvm.Cond.code ({ cls := "KnowHouse$RuleEngine", name := "fact", desc := "(III)I" } : Jvm.MethodName) prog_58_method_8_code (4 : Nat) (Option.some Jvm.ClassFile.FieldType.int)) ∈ lw_all := lw_g (lw_at lw_m10 220 rfl) rfl
theorem q2921 : (Jvm.Cond.methodLink "KnowHouse" (782 : Nat) ({ cls := "KnowHouse$FacetCounts", name := "drop", desc := "(III)I" } : Jvm.MethodName)) ∈ lw_all := lw_g (lw_at lw_m11 43 rfl) rfl
theorem q2922 : (Jvm.Cond.instanceMethod ({ cls := "KnowHouse$FacetCounts", name := "drop", desc := "(III)I" } : Jvm.MethodName)) ∈ lw_all := lw_g (lw_at lw_m11 44 rfl) rfl
theorem q2923 : (Jvm.Cond.selects "KnowHouse$FacetCounts" ({ cls := "KnowHouse$FacetCounts", name := "drop", desc := "(III)I" } : Jvm.MethodName) ({ cls := "KnowHouse$FacetCounts", name := "drop", desc := "(III)I" } : Jvm.MethodName)) ∈ lw_all := lw_g (lw_at lw_m11 45 rfl) rfl
theorem q2924 : (Jvm.Cond.code ({ cls := "KnowHouse$FacetCounts", name := "drop", desc := "(III)I" } : Jvm.MethodName) prog_20_method_10_code (5 : Nat) (Option.some Jvm.ClassFile.FieldType.int)) ∈ lw_all := lw_g (lw_at lw_m11 46 rfl) rfl
theorem q2925 : (Jvm.Cond.methodLink "KnowHouse" (830 : Nat) ({ cls := "KnowHouse$RuleEngine", name := "remove", desc := "(III)I" } : Jvm.MethodName)) ∈ lw_all := lw_g (lw_at lw_m11 47 rfl) rfl
theorem q2926 : (Jvm.Cond.instanceMethod ({ cls := "KnowHouse$RuleEngine", name := "remove", desc := "(III)I" } : Jvm.MethodName)) ∈ lw_all := lw_g (lw_at lw_m11 48 rfl) rfl
theorem q2927 : (Jvm.Cond.selects "KnowHouse$RuleEngine" ({ cls := "KnowHouse$RuleEngine", name := "remove", desc := "(III)I" } : Jvm.MethodName) ({ cls := "KnowHouse$RuleEngine", name := "remove", desc := "(III)I" } : Jvm.MethodName)) ∈ lw_all := lw_g (lw_at lw_m11 49 rfl) rfl
theorem q2928 : (Jvm.Cond.code ({ cls := "KnowHouse$RuleEngine", name := "remove", desc := "(III)I" } : Jvm.MethodName) prog_58_method_9_code (4 : Nat) (Option.some Jvm.ClassFile.FieldType.int)) ∈ lw_all := lw_g (lw_at lw_m11 50 rfl) rfl
theorem q2929 : (Jvm.Cond.methodLink "KnowHouse" (938 : Nat) ({ cls := "KnowHouse", name := "enter", desc := "(III)V" } : Jvm.MethodName)) ∈ lw_all := lw_g (lw_at lw_m11 51 rfl) rfl
theorem q2931 : (Jvm.Cond.instanceMethod ({ cls := "KnowHouse", name := "enter", desc := "(III)V" } : Jvm.MethodName)) ∈ lw_all := lw_g (lw_at lw_m11 53 rfl) rfl
theorem q2932 : (Jvm.Cond.code ({ cls := "KnowHouse", name := "enter", desc := "(III)V" } : Jvm.MethodName) prog_1_method_42_code (4 : Nat) (Option.none : Option Jvm.ClassFile.FieldType)) ∈ lw_all := lw_g (lw_at lw_m11 54 rfl) rfl
theorem q2933 : (Jvm.Cond.methodLink "KnowHouse" (904 : Nat) ({ cls := "KnowHouse", name := "level", desc := "()I" } : Jvm.MethodName)) ∈ lw_all := lw_g (lw_at lw_m11 55 rfl) rfl
theorem q2935 : (Jvm.Cond.instanceMethod ({ cls := "KnowHouse", name := "level", desc := "()I" } : Jvm.MethodName)) ∈ lw_all := lw_g (lw_at lw_m11 57 rfl) rfl
theorem q2936 : (Jvm.Cond.code ({ cls := "KnowHouse", name := "level", desc := "()I" } : Jvm.MethodName) prog_1_method_46_code (3 : Nat) (Option.some Jvm.ClassFile.FieldType.int)) ∈ lw_all := lw_g (lw_at lw_m11 58 rfl) rfl
theorem q2937 : (Jvm.Cond.methodLink "KnowHouse" (640 : Nat) ({ cls := "KnowHouse$VersionTrans", name := "told", desc := "(II)Z" } : Jvm.MethodName)) ∈ lw_all := lw_g (lw_at lw_m11 59 rfl) rfl
theorem q2938 : (Jvm.Cond.instanceMethod ({ cls := "KnowHouse$VersionTrans", name := "told", desc := "(II)Z" } : Jvm.MethodName)) ∈ lw_all := lw_g (lw_at lw_m11 60 rfl) rfl
theorem q2939 : (Jvm.Cond.selects "KnowHouse$VersionTrans" ({ cls := "KnowHouse$VersionTrans", name := "told", desc := "(II)Z" } : Jvm.MethodName) ({ cls := "KnowHouse$VersionTrans", name := "told", desc := "(II)Z" } : Jvm.MethodName)) ∈ lw_all := lw_g (lw_at lw_m11 61 rfl) rfl
theorem q2940 : (Jvm.Cond.code ({ cls := "KnowHouse$VersionTrans", name := "told", desc := "(II)Z" } : Jvm.MethodName) prog_65_method_21_code (3 : Nat) (Option.some Jvm.ClassFile.FieldType.boolean)) ∈ lw_all := lw_g (lw_at lw_m11 62 rfl) rfl
theorem q2951 : (Jvm.Cond.methodLink "KnowHouse" (906 : Nat) ({ cls := "KnowHouse", name := "publish", desc := "()I" } : Jvm.MethodName)) ∈ lw_all := lw_g (lw_at lw_m11 73 rfl) rfl
theorem q2953 : (Jvm.Cond.instanceMethod ({ cls := "KnowHouse", name := "publish", desc := "()I" } : Jvm.MethodName)) ∈ lw_all := lw_g (lw_at lw_m11 75 rfl) rfl
theorem q2954 : (Jvm.Cond.code ({ cls := "KnowHouse", name := "publish", desc := "()I" } : Jvm.MethodName) prog_1_method_47_code (3 : Nat) (Option.some Jvm.ClassFile.FieldType.int)) ∈ lw_all := lw_g (lw_at lw_m11 76 rfl) rfl
theorem q2955 : (Jvm.Cond.methodLink "KnowHouse" (610 : Nat) ({ cls := "KnowHouse$CanonNames", name := "keep", desc := "()I" } : Jvm.MethodName)) ∈ lw_all := lw_g (lw_at lw_m11 77 rfl) rfl
theorem q2956 : (Jvm.Cond.instanceMethod ({ cls := "KnowHouse$CanonNames", name := "keep", desc := "()I" } : Jvm.MethodName)) ∈ lw_all := lw_g (lw_at lw_m11 78 rfl) rfl
theorem q2957 : (Jvm.Cond.selects "KnowHouse$CanonNames" ({ cls := "KnowHouse$CanonNames", name := "keep", desc := "()I" } : Jvm.MethodName) ({ cls := "KnowHouse$CanonNames", name := "keep", desc := "()I" } : Jvm.MethodName)) ∈ lw_all := lw_g (lw_at lw_m11 79 rfl) rfl
theorem q2958 : (Jvm.Cond.code ({ cls := "KnowHouse$CanonNames", name := "keep", desc := "()I" } : Jvm.MethodName) prog_3_method_27_code (1 : Nat) (Option.some Jvm.ClassFile.FieldType.int)) ∈ lw_all := lw_g (lw_at lw_m11 80 rfl) rfl
theorem q2959 : (Jvm.Cond.methodLink "KnowHouse" (585 : Nat) ({ cls := "KnowHouse$CanonNames", name := "blank", desc := "()I" } : Jvm.MethodName)) ∈ lw_all := lw_g (lw_at lw_m11 81 rfl) rfl
theorem q2960 : (Jvm.Cond.instanceMethod ({ cls := "KnowHouse$CanonNames", name := "blank", desc := "()I" } : Jvm.MethodName)) ∈ lw_all := lw_g (lw_at lw_m11 82 rfl) rfl
theorem q2961 : (Jvm.Cond.selects "KnowHouse$CanonNames" ({ cls := "KnowHouse$CanonNames", name := "blank", desc := "()I" } : Jvm.MethodName) ({ cls := "KnowHouse$CanonNames", name := "blank", desc := "()I" } : Jvm.MethodName)) ∈ lw_all := lw_g (lw_at lw_m11 83 rfl) rfl
theorem q2962 : (Jvm.Cond.code ({ cls := "KnowHouse$CanonNames", name := "blank", desc := "()I" } : Jvm.MethodName) prog_3_method_6_code (1 : Nat) (Option.some Jvm.ClassFile.FieldType.int)) ∈ lw_all := lw_g (lw_at lw_m11 84 rfl) rfl
theorem q2963 : (Jvm.Cond.methodLink "KnowHouse" (591 : Nat) ({ cls := "KnowHouse$CanonNames", name := "triple", desc := "(III)I" } : Jvm.MethodName)) ∈ lw_all := lw_g (lw_at lw_m11 85 rfl) rfl
theorem q2964 : (Jvm.Cond.instanceMethod ({ cls := "KnowHouse$CanonNames", name := "triple", desc := "(III)I" } : Jvm.MethodName)) ∈ lw_all := lw_g (lw_at lw_m11 86 rfl) rfl
theorem q2965 : (Jvm.Cond.selects "KnowHouse$CanonNames" ({ cls := "KnowHouse$CanonNames", name := "triple", desc := "(III)I" } : Jvm.MethodName) ({ cls := "KnowHouse$CanonNames", name := "triple", desc := "(III)I" } : Jvm.MethodName)) ∈ lw_all := lw_g (lw_at lw_m11 87 rfl) rfl
theorem q2966 : (Jvm.Cond.code ({ cls := "KnowHouse$CanonNames", name := "triple", desc := "(III)I" } : Jvm.MethodName) prog_3_method_8_code (6 : Nat) (Option.some Jvm.ClassFile.FieldType.int)) ∈ lw_all := lw_g (lw_at lw_m11 88 rfl) rfl
theorem q2990 : (Jvm.Cond.constantLong "KnowHouse" (942 : Nat) (5000 : Int64)) ∈ lw_all := lw_g (lw_at lw_m11 112 rfl) rfl
theorem q2991 : (Jvm.Cond.methodLink "KnowHouse" (596 : Nat) ({ cls := "KnowHouse$CanonNames", name := "name", desc := "(J)I" } : Jvm.MethodName)) ∈ lw_all := lw_g (lw_at lw_m11 113 rfl) rfl
theorem q2992 : (Jvm.Cond.instanceMethod ({ cls := "KnowHouse$CanonNames", name := "name", desc := "(J)I" } : Jvm.MethodName)) ∈ lw_all := lw_g (lw_at lw_m11 114 rfl) rfl
theorem q2993 : (Jvm.Cond.selects "KnowHouse$CanonNames" ({ cls := "KnowHouse$CanonNames", name := "name", desc := "(J)I" } : Jvm.MethodName) ({ cls := "KnowHouse$CanonNames", name := "name", desc := "(J)I" } : Jvm.MethodName)) ∈ lw_all := lw_g (lw_at lw_m11 115 rfl) rfl
theorem q2994 : (Jvm.Cond.code ({ cls := "KnowHouse$CanonNames", name := "name", desc := "(J)I" } : Jvm.MethodName) prog_3_method_21_code (5 : Nat) (Option.some Jvm.ClassFile.FieldType.int)) ∈ lw_all := lw_g (lw_at lw_m11 116 rfl) rfl
theorem q3061 : (Jvm.Cond.methodLink "KnowHouse" (612 : Nat) ({ cls := "KnowHouse$CanonNames", name := "isomorphic", desc := "(I)I" } : Jvm.MethodName)) ∈ lw_all := lw_g (lw_at lw_m11 183 rfl) rfl
theorem q3062 : (Jvm.Cond.instanceMethod ({ cls := "KnowHouse$CanonNames", name := "isomorphic", desc := "(I)I" } : Jvm.MethodName)) ∈ lw_all := lw_g (lw_at lw_m11 184 rfl) rfl
theorem q3063 : (Jvm.Cond.selects "KnowHouse$CanonNames" ({ cls := "KnowHouse$CanonNames", name := "isomorphic", desc := "(I)I" } : Jvm.MethodName) ({ cls := "KnowHouse$CanonNames", name := "isomorphic", desc := "(I)I" } : Jvm.MethodName)) ∈ lw_all := lw_g (lw_at lw_m11 185 rfl) rfl
theorem q3064 : (Jvm.Cond.code ({ cls := "KnowHouse$CanonNames", name := "isomorphic", desc := "(I)I" } : Jvm.MethodName) prog_3_method_29_code (2 : Nat) (Option.some Jvm.ClassFile.FieldType.int)) ∈ lw_all := lw_g (lw_at lw_m11 186 rfl) rfl
theorem q3080 : (Jvm.Cond.methodLink "KnowHouse" (908 : Nat) ({ cls := "KnowHouse", name := "under", desc := "(II)I" } : Jvm.MethodName)) ∈ lw_all := lw_g (lw_at lw_m11 202 rfl) rfl
theorem q3082 : (Jvm.Cond.instanceMethod ({ cls := "KnowHouse", name := "under", desc := "(II)I" } : Jvm.MethodName)) ∈ lw_all := lw_g (lw_at lw_m11 204 rfl) rfl
theorem q3083 : (Jvm.Cond.code ({ cls := "KnowHouse", name := "under", desc := "(II)I" } : Jvm.MethodName) prog_1_method_48_code (4 : Nat) (Option.some Jvm.ClassFile.FieldType.int)) ∈ lw_all := lw_g (lw_at lw_m11 205 rfl) rfl
theorem q3084 : (Jvm.Cond.methodLink "KnowHouse" (753 : Nat) ({ cls := "KnowHouse$ClassifySort", name := "axiom", desc := "(III)I" } : Jvm.MethodName)) ∈ lw_all := lw_g (lw_at lw_m11 206 rfl) rfl
theorem q3085 : (Jvm.Cond.instanceMethod ({ cls := "KnowHouse$ClassifySort", name := "axiom", desc := "(III)I" } : Jvm.MethodName)) ∈ lw_all := lw_g (lw_at lw_m11 207 rfl) rfl
theorem q3086 : (Jvm.Cond.selects "KnowHouse$ClassifySort" ({ cls := "KnowHouse$ClassifySort", name := "axiom", desc := "(III)I" } : Jvm.MethodName) ({ cls := "KnowHouse$ClassifySort", name := "axiom", desc := "(III)I" } : Jvm.MethodName)) ∈ lw_all := lw_g (lw_at lw_m11 208 rfl) rfl
theorem q3087 : (Jvm.Cond.code ({ cls := "KnowHouse$ClassifySort", name := "axiom", desc := "(III)I" } : Jvm.MethodName) prog_7_method_10_code (7 : Nat) (Option.some Jvm.ClassFile.FieldType.int)) ∈ lw_all := lw_g (lw_at lw_m11 209 rfl) rfl
theorem q3156 : (Jvm.Cond.methodLink "KnowHouse" (783 : Nat) ({ cls := "KnowHouse$FacetCounts", name := "above", desc := "(II)I" } : Jvm.MethodName)) ∈ lw_all := lw_g (lw_at lw_m12 38 rfl) rfl
theorem q3157 : (Jvm.Cond.instanceMethod ({ cls := "KnowHouse$FacetCounts", name := "above", desc := "(II)I" } : Jvm.MethodName)) ∈ lw_all := lw_g (lw_at lw_m12 39 rfl) rfl
theorem q3158 : (Jvm.Cond.selects "KnowHouse$FacetCounts" ({ cls := "KnowHouse$FacetCounts", name := "above", desc := "(II)I" } : Jvm.MethodName) ({ cls := "KnowHouse$FacetCounts", name := "above", desc := "(II)I" } : Jvm.MethodName)) ∈ lw_all := lw_g (lw_at lw_m12 40 rfl) rfl
theorem q3159 : (Jvm.Cond.code ({ cls := "KnowHouse$FacetCounts", name := "above", desc := "(II)I" } : Jvm.MethodName) prog_20_method_11_code (5 : Nat) (Option.some Jvm.ClassFile.FieldType.int)) ∈ lw_all := lw_g (lw_at lw_m12 41 rfl) rfl
theorem q3164 : (Jvm.Cond.methodLink "KnowHouse" (856 : Nat) ({ cls := "KnowHouse$QlRewrite", name := "axiom", desc := "(III)I" } : Jvm.MethodName)) ∈ lw_all := lw_g (lw_at lw_m12 46 rfl) rfl
theorem q3165 : (Jvm.Cond.instanceMethod ({ cls := "KnowHouse$QlRewrite", name := "axiom", desc := "(III)I" } : Jvm.MethodName)) ∈ lw_all := lw_g (lw_at lw_m12 47 rfl) rfl
theorem q3166 : (Jvm.Cond.selects "KnowHouse$QlRewrite" ({ cls := "KnowHouse$QlRewrite", name := "axiom", desc := "(III)I" } : Jvm.MethodName) ({ cls := "KnowHouse$QlRewrite", name := "axiom", desc := "(III)I" } : Jvm.MethodName)) ∈ lw_all := lw_g (lw_at lw_m12 48 rfl) rfl
theorem q3167 : (Jvm.Cond.code ({ cls := "KnowHouse$QlRewrite", name := "axiom", desc := "(III)I" } : Jvm.MethodName) prog_45_method_4_code (5 : Nat) (Option.some Jvm.ClassFile.FieldType.int)) ∈ lw_all := lw_g (lw_at lw_m12 49 rfl) rfl
theorem q3227 : (Jvm.Cond.methodLink "KnowHouse" (910 : Nat) ({ cls := "KnowHouse", name := "is", desc := "(II)I" } : Jvm.MethodName)) ∈ lw_all := lw_g (lw_at lw_m12 109 rfl) rfl
theorem q3229 : (Jvm.Cond.instanceMethod ({ cls := "KnowHouse", name := "is", desc := "(II)I" } : Jvm.MethodName)) ∈ lw_all := lw_g (lw_at lw_m12 111 rfl) rfl
theorem q3230 : (Jvm.Cond.code ({ cls := "KnowHouse", name := "is", desc := "(II)I" } : Jvm.MethodName) prog_1_method_49_code (4 : Nat) (Option.some Jvm.ClassFile.FieldType.int)) ∈ lw_all := lw_g (lw_at lw_m12 112 rfl) rfl
theorem q3231 : (Jvm.Cond.methodLink "KnowHouse" (773 : Nat) ({ cls := "KnowHouse$ClassifySort", name := "put", desc := "(II)I" } : Jvm.MethodName)) ∈ lw_all := lw_g (lw_at lw_m12 113 rfl) rfl
theorem q3232 : (Jvm.Cond.instanceMethod ({ cls := "KnowHouse$ClassifySort", name := "put", desc := "(II)I" } : Jvm.MethodName)) ∈ lw_all := lw_g (lw_at lw_m12 114 rfl) rfl
theorem q3233 : (Jvm.Cond.selects "KnowHouse$ClassifySort" ({ cls := "KnowHouse$ClassifySort", name := "put", desc := "(II)I" } : Jvm.MethodName) ({ cls := "KnowHouse$ClassifySort", name := "put", desc := "(II)I" } : Jvm.MethodName)) ∈ lw_all := lw_g (lw_at lw_m12 115 rfl) rfl
theorem q3234 : (Jvm.Cond.code ({ cls := "KnowHouse$ClassifySort", name := "put", desc := "(II)I" } : Jvm.MethodName) prog_7_method_39_code (3 : Nat) (Option.some Jvm.ClassFile.FieldType.int)) ∈ lw_all := lw_g (lw_at lw_m12 116 rfl) rfl
theorem q3239 : (Jvm.Cond.methodLink "KnowHouse" (857 : Nat) ({ cls := "KnowHouse$QlRewrite", name := "fact", desc := "(ZIII)I" } : Jvm.MethodName)) ∈ lw_all := lw_g (lw_at lw_m12 121 rfl) rfl
theorem q3240 : (Jvm.Cond.instanceMethod ({ cls := "KnowHouse$QlRewrite", name := "fact", desc := "(ZIII)I" } : Jvm.MethodName)) ∈ lw_all := lw_g (lw_at lw_m12 122 rfl) rfl
theorem q3241 : (Jvm.Cond.selects "KnowHouse$QlRewrite" ({ cls := "KnowHouse$QlRewrite", name := "fact", desc := "(ZIII)I" } : Jvm.MethodName) ({ cls := "KnowHouse$QlRewrite", name := "fact", desc := "(ZIII)I" } : Jvm.MethodName)) ∈ lw_all := lw_g (lw_at lw_m12 123 rfl) rfl
theorem q3242 : (Jvm.Cond.code ({ cls := "KnowHouse$QlRewrite", name := "fact", desc := "(ZIII)I" } : Jvm.MethodName) prog_45_method_8_code (5 : Nat) (Option.some Jvm.ClassFile.FieldType.int)) ∈ lw_all := lw_g (lw_at lw_m12 124 rfl) rfl
theorem q3254 : (Jvm.Cond.methodLink "KnowHouse" (912 : Nat) ({ cls := "KnowHouse", name := "order", desc := "()I" } : Jvm.MethodName)) ∈ lw_all := lw_g (lw_at lw_m12 136 rfl) rfl
theorem q3256 : (Jvm.Cond.instanceMethod ({ cls := "KnowHouse", name := "order", desc := "()I" } : Jvm.MethodName)) ∈ lw_all := lw_g (lw_at lw_m12 138 rfl) rfl
theorem q3257 : (Jvm.Cond.code ({ cls := "KnowHouse", name := "order", desc := "()I" } : Jvm.MethodName) prog_1_method_50_code (5 : Nat) (Option.some Jvm.ClassFile.FieldType.int)) ∈ lw_all := lw_g (lw_at lw_m12 139 rfl) rfl
theorem q3258 : (Jvm.Cond.methodLink "KnowHouse" (761 : Nat) ({ cls := "KnowHouse$ClassifySort", name := "run", desc := "()I" } : Jvm.MethodName)) ∈ lw_all := lw_g (lw_at lw_m12 140 rfl) rfl
theorem q3259 : (Jvm.Cond.instanceMethod ({ cls := "KnowHouse$ClassifySort", name := "run", desc := "()I" } : Jvm.MethodName)) ∈ lw_all := lw_g (lw_at lw_m12 141 rfl) rfl
theorem q3260 : (Jvm.Cond.selects "KnowHouse$ClassifySort" ({ cls := "KnowHouse$ClassifySort", name := "run", desc := "()I" } : Jvm.MethodName) ({ cls := "KnowHouse$ClassifySort", name := "run", desc := "()I" } : Jvm.MethodName)) ∈ lw_all := lw_g (lw_at lw_m12 142 rfl) rfl
theorem q3261 : (Jvm.Cond.code ({ cls := "KnowHouse$ClassifySort", name := "run", desc := "()I" } : Jvm.MethodName) prog_7_method_30_code (3 : Nat) (Option.some Jvm.ClassFile.FieldType.int)) ∈ lw_all := lw_g (lw_at lw_m12 143 rfl) rfl
theorem q3315 : (Jvm.Cond.methodLink "KnowHouse" (779 : Nat) ({ cls := "KnowHouse$ClassifySort", name := "count", desc := "(I)I" } : Jvm.MethodName)) ∈ lw_all := lw_g (lw_at lw_m12 197 rfl) rfl
theorem q3316 : (Jvm.Cond.instanceMethod ({ cls := "KnowHouse$ClassifySort", name := "count", desc := "(I)I" } : Jvm.MethodName)) ∈ lw_all := lw_g (lw_at lw_m12 198 rfl) rfl
theorem q3317 : (Jvm.Cond.selects "KnowHouse$ClassifySort" ({ cls := "KnowHouse$ClassifySort", name := "count", desc := "(I)I" } : Jvm.MethodName) ({ cls := "KnowHouse$ClassifySort", name := "count", desc := "(I)I" } : Jvm.MethodName)) ∈ lw_all := lw_g (lw_at lw_m12 199 rfl) rfl
theorem q3318 : (Jvm.Cond.code ({ cls := "KnowHouse$ClassifySort", name := "count", desc := "(I)I" } : Jvm.MethodName) prog_7_method_43_code (2 : Nat) (Option.some Jvm.ClassFile.FieldType.int)) ∈ lw_all := lw_g (lw_at lw_m12 200 rfl) rfl
theorem q3328 : (Jvm.Cond.methodLink "KnowHouse" (763 : Nat) ({ cls := "KnowHouse$ClassifySort", name := "parent", desc := "(II)I" } : Jvm.MethodName)) ∈ lw_all := lw_g (lw_at lw_m12 210 rfl) rfl
theorem q3329 : (Jvm.Cond.instanceMethod ({ cls := "KnowHouse$ClassifySort", name := "parent", desc := "(II)I" } : Jvm.MethodName)) ∈ lw_all := lw_g (lw_at lw_m12 211 rfl) rfl
theorem q3330 : (Jvm.Cond.selects "KnowHouse$ClassifySort" ({ cls := "KnowHouse$ClassifySort", name := "parent", desc := "(II)I" } : Jvm.MethodName) ({ cls := "KnowHouse$ClassifySort", name := "parent", desc := "(II)I" } : Jvm.MethodName)) ∈ lw_all := lw_g (lw_at lw_m12 212 rfl) rfl
theorem q3331 : (Jvm.Cond.code ({ cls := "KnowHouse$ClassifySort", name := "parent", desc := "(II)I" } : Jvm.MethodName) prog_7_method_33_code (4 : Nat) (Option.some Jvm.ClassFile.FieldType.int)) ∈ lw_all := lw_g (lw_at lw_m12 213 rfl) rfl
theorem q3343 : (Jvm.Cond.methodLink "KnowHouse" (914 : Nat) ({ cls := "KnowHouse", name := "take", desc := "(III)I" } : Jvm.MethodName)) ∈ lw_all := lw_g (lw_at lw_m12 225 rfl) rfl
theorem q3345 : (Jvm.Cond.instanceMethod ({ cls := "KnowHouse", name := "take", desc := "(III)I" } : Jvm.MethodName)) ∈ lw_all := lw_g (lw_at lw_m12 227 rfl) rfl
theorem q3346 : (Jvm.Cond.code ({ cls := "KnowHouse", name := "take", desc := "(III)I" } : Jvm.MethodName) prog_1_method_51_code (7 : Nat) (Option.some Jvm.ClassFile.FieldType.int)) ∈ lw_all := lw_g (lw_at lw_m12 228 rfl) rfl
theorem q3347 : (Jvm.Cond.methodLink "KnowHouse" (823 : Nat) ({ cls := "KnowHouse$VirtualRewrite", name := "run", desc := "()I" } : Jvm.MethodName)) ∈ lw_all := lw_g (lw_at lw_m12 229 rfl) rfl
theorem q3348 : (Jvm.Cond.instanceMethod ({ cls := "KnowHouse$VirtualRewrite", name := "run", desc := "()I" } : Jvm.MethodName)) ∈ lw_all := lw_g (lw_at lw_m12 230 rfl) rfl
theorem q3349 : (Jvm.Cond.selects "KnowHouse$VirtualRewrite" ({ cls := "KnowHouse$VirtualRewrite", name := "run", desc := "()I" } : Jvm.MethodName) ({ cls := "KnowHouse$VirtualRewrite", name := "run", desc := "()I" } : Jvm.MethodName)) ∈ lw_all := lw_g (lw_at lw_m12 231 rfl) rfl
theorem q3350 : (Jvm.Cond.code ({ cls := "KnowHouse$VirtualRewrite", name := "run", desc := "()I" } : Jvm.MethodName) prog_72_method_25_code (7 : Nat) (Option.some Jvm.ClassFile.FieldType.int)) ∈ lw_all := lw_g (lw_at lw_m12 232 rfl) rfl
theorem q3421 : (Jvm.Cond.methodLink "KnowHouse" (824 : Nat) ({ cls := "KnowHouse$VirtualRewrite", name := "value", desc := "(II)I" } : Jvm.MethodName)) ∈ lw_all := lw_g (lw_at lw_m13 63 rfl) rfl
theorem q3422 : (Jvm.Cond.instanceMethod ({ cls := "KnowHouse$VirtualRewrite", name := "value", desc := "(II)I" } : Jvm.MethodName)) ∈ lw_all := lw_g (lw_at lw_m13 64 rfl) rfl
theorem q3423 : (Jvm.Cond.selects "KnowHouse$VirtualRewrite" ({ cls := "KnowHouse$VirtualRewrite", name := "value", desc := "(II)I" } : Jvm.MethodName) ({ cls := "KnowHouse$VirtualRewrite", name := "value", desc := "(II)I" } : Jvm.MethodName)) ∈ lw_all := lw_g (lw_at lw_m13 65 rfl) rfl
theorem q3424 : (Jvm.Cond.code ({ cls := "KnowHouse$VirtualRewrite", name := "value", desc := "(II)I" } : Jvm.MethodName) prog_72_method_33_code (3 : Nat) (Option.some Jvm.ClassFile.FieldType.int)) ∈ lw_all := lw_g (lw_at lw_m13 66 rfl) rfl
theorem q3430 : (Jvm.Cond.methodLink "KnowHouse" (916 : Nat) ({ cls := "KnowHouse", name := "store", desc := "(I)I" } : Jvm.MethodName)) ∈ lw_all := lw_g (lw_at lw_m13 72 rfl) rfl
theorem q3432 : (Jvm.Cond.instanceMethod ({ cls := "KnowHouse", name := "store", desc := "(I)I" } : Jvm.MethodName)) ∈ lw_all := lw_g (lw_at lw_m13 74 rfl) rfl
theorem q3433 : (Jvm.Cond.code ({ cls := "KnowHouse", name := "store", desc := "(I)I" } : Jvm.MethodName) prog_1_method_52_code (4 : Nat) (Option.some Jvm.ClassFile.FieldType.int)) ∈ lw_all := lw_g (lw_at lw_m13 75 rfl) rfl
theorem q3434 : (Jvm.Cond.constantLong "KnowHouse" (944 : Nat) (1000000 : Int64)) ∈ lw_all := lw_g (lw_at lw_m13 76 rfl) rfl
theorem q3435 : (Jvm.Cond.constantLong "KnowHouse" (946 : Nat) (1000 : Int64)) ∈ lw_all := lw_g (lw_at lw_m13 77 rfl) rfl
theorem q3436 : (Jvm.Cond.methodLink "KnowHouse" (787 : Nat) ({ cls := "KnowHouse$FacetCounts", name := "kept", desc := "()I" } : Jvm.MethodName)) ∈ lw_all := lw_g (lw_at lw_m13 78 rfl) rfl
theorem q3440 : (Jvm.Cond.methodLink "KnowHouse" (618 : Nat) ({ cls := "KnowHouse$CanonNames", name := "triples", desc := "()I" } : Jvm.MethodName)) ∈ lw_all := lw_g (lw_at lw_m13 82 rfl) rfl
theorem q3441 : (Jvm.Cond.instanceMethod ({ cls := "KnowHouse$CanonNames", name := "triples", desc := "()I" } : Jvm.MethodName)) ∈ lw_all := lw_g (lw_at lw_m13 83 rfl) rfl
theorem q3442 : (Jvm.Cond.selects "KnowHouse$CanonNames" ({ cls := "KnowHouse$CanonNames", name := "triples", desc := "()I" } : Jvm.MethodName) ({ cls := "KnowHouse$CanonNames", name := "triples", desc := "()I" } : Jvm.MethodName)) ∈ lw_all := lw_g (lw_at lw_m13 84 rfl) rfl
theorem q3443 : (Jvm.Cond.code ({ cls := "KnowHouse$CanonNames", name := "triples", desc := "()I" } : Jvm.MethodName) prog_3_method_35_code (1 : Nat) (Option.some Jvm.ClassFile.FieldType.int)) ∈ lw_all := lw_g (lw_at lw_m13 85 rfl) rfl
theorem q3444 : (Jvm.Cond.methodLink "KnowHouse" (880 : Nat) ({ cls := "KnowHouse$KnowDisk", name := "page", desc := "(IIJ)I" } : Jvm.MethodName)) ∈ lw_all := lw_g (lw_at lw_m13 86 rfl) rfl
theorem q3445 : (Jvm.Cond.instanceMethod ({ cls := "KnowHouse$KnowDisk", name := "page", desc := "(IIJ)I" } : Jvm.MethodName)) ∈ lw_all := lw_g (lw_at lw_m13 87 rfl) rfl
theorem q3446 : (Jvm.Cond.selects "KnowHouse$KnowDisk" ({ cls := "KnowHouse$KnowDisk", name := "page", desc := "(IIJ)I" } : Jvm.MethodName) ({ cls := "KnowHouse$KnowDisk", name := "page", desc := "(IIJ)I" } : Jvm.MethodName)) ∈ lw_all := lw_g (lw_at lw_m13 88 rfl) rfl
theorem q3447 : (Jvm.Cond.code ({ cls := "KnowHouse$KnowDisk", name := "page", desc := "(IIJ)I" } : Jvm.MethodName) prog_21_method_14_code (6 : Nat) (Option.some Jvm.ClassFile.FieldType.int)) ∈ lw_all := lw_g (lw_at lw_m13 89 rfl) rfl
theorem q3636 : (Jvm.Cond.methodLink "KnowHouse" (883 : Nat) ({ cls := "KnowHouse$KnowDisk", name := "commit", desc := "(I)I" } : Jvm.MethodName)) ∈ lw_all := lw_g (lw_at lw_m14 38 rfl) rfl
theorem q3637 : (Jvm.Cond.instanceMethod ({ cls := "KnowHouse$KnowDisk", name := "commit", desc := "(I)I" } : Jvm.MethodName)) ∈ lw_all := lw_g (lw_at lw_m14 39 rfl) rfl
theorem q3638 : (Jvm.Cond.selects "KnowHouse$KnowDisk" ({ cls := "KnowHouse$KnowDisk", name := "commit", desc := "(I)I" } : Jvm.MethodName) ({ cls := "KnowHouse$KnowDisk", name := "commit", desc := "(I)I" } : Jvm.MethodName)) ∈ lw_all := lw_g (lw_at lw_m14 40 rfl) rfl
theorem q3639 : (Jvm.Cond.code ({ cls := "KnowHouse$KnowDisk", name := "commit", desc := "(I)I" } : Jvm.MethodName) prog_21_method_17_code (7 : Nat) (Option.some Jvm.ClassFile.FieldType.int)) ∈ lw_all := lw_g (lw_at lw_m14 41 rfl) rfl
theorem q3687 : (Jvm.Cond.methodLink "KnowHouse" (884 : Nat) ({ cls := "KnowHouse$KnowDisk", name := "sync", desc := "()I" } : Jvm.MethodName)) ∈ lw_all := lw_g (lw_at lw_m14 89 rfl) rfl
theorem q3688 : (Jvm.Cond.instanceMethod ({ cls := "KnowHouse$KnowDisk", name := "sync", desc := "()I" } : Jvm.MethodName)) ∈ lw_all := lw_g (lw_at lw_m14 90 rfl) rfl
theorem q3689 : (Jvm.Cond.selects "KnowHouse$KnowDisk" ({ cls := "KnowHouse$KnowDisk", name := "sync", desc := "()I" } : Jvm.MethodName) ({ cls := "KnowHouse$KnowDisk", name := "sync", desc := "()I" } : Jvm.MethodName)) ∈ lw_all := lw_g (lw_at lw_m14 91 rfl) rfl
theorem q3690 : (Jvm.Cond.code ({ cls := "KnowHouse$KnowDisk", name := "sync", desc := "()I" } : Jvm.MethodName) prog_21_method_19_code (1 : Nat) (Option.some Jvm.ClassFile.FieldType.int)) ∈ lw_all := lw_g (lw_at lw_m14 92 rfl) rfl
theorem q3707 : (Jvm.Cond.methodLink "KnowHouse" (918 : Nat) ({ cls := "KnowHouse", name := "audit", desc := "()I" } : Jvm.MethodName)) ∈ lw_all := lw_g (lw_at lw_m14 109 rfl) rfl
theorem q3708 : (Jvm.Cond.instanceMethod ({ cls := "KnowHouse", name := "audit", desc := "()I" } : Jvm.MethodName)) ∈ lw_all := lw_g (lw_at lw_m14 110 rfl) rfl
theorem q3709 : (Jvm.Cond.selects "KnowHouse" ({ cls := "KnowHouse", name := "audit", desc := "()I" } : Jvm.MethodName) ({ cls := "KnowHouse", name := "audit", desc := "()I" } : Jvm.MethodName)) ∈ lw_all := lw_g (lw_at lw_m14 111 rfl) rfl
theorem q3710 : (Jvm.Cond.code ({ cls := "KnowHouse", name := "audit", desc := "()I" } : Jvm.MethodName) prog_1_method_59_code (3 : Nat) (Option.some Jvm.ClassFile.FieldType.int)) ∈ lw_all := lw_g (lw_at lw_m14 112 rfl) rfl
theorem q3711 : (Jvm.Cond.methodLink "KnowHouse" (847 : Nat) ({ cls := "KnowHouse$RuleEngine", name := "holds", desc := "(III)I" } : Jvm.MethodName)) ∈ lw_all := lw_g (lw_at lw_m14 113 rfl) rfl
theorem q3712 : (Jvm.Cond.instanceMethod ({ cls := "KnowHouse$RuleEngine", name := "holds", desc := "(III)I" } : Jvm.MethodName)) ∈ lw_all := lw_g (lw_at lw_m14 114 rfl) rfl
theorem q3713 : (Jvm.Cond.selects "KnowHouse$RuleEngine" ({ cls := "KnowHouse$RuleEngine", name := "holds", desc := "(III)I" } : Jvm.MethodName) ({ cls := "KnowHouse$RuleEngine", name := "holds", desc := "(III)I" } : Jvm.MethodName)) ∈ lw_all := lw_g (lw_at lw_m14 115 rfl) rfl
theorem q3714 : (Jvm.Cond.code ({ cls := "KnowHouse$RuleEngine", name := "holds", desc := "(III)I" } : Jvm.MethodName) prog_58_method_36_code (5 : Nat) (Option.some Jvm.ClassFile.FieldType.int)) ∈ lw_all := lw_g (lw_at lw_m14 116 rfl) rfl
theorem q3864 : (Jvm.Cond.methodLink "KnowHouse" (920 : Nat) ({ cls := "KnowHouse", name := "entry", desc := "(II)I" } : Jvm.MethodName)) ∈ lw_all := lw_g (lw_at lw_m15 26 rfl) rfl
theorem q3866 : (Jvm.Cond.instanceMethod ({ cls := "KnowHouse", name := "entry", desc := "(II)I" } : Jvm.MethodName)) ∈ lw_all := lw_g (lw_at lw_m15 28 rfl) rfl
theorem q3867 : (Jvm.Cond.code ({ cls := "KnowHouse", name := "entry", desc := "(II)I" } : Jvm.MethodName) prog_1_method_53_code (4 : Nat) (Option.some Jvm.ClassFile.FieldType.int)) ∈ lw_all := lw_g (lw_at lw_m15 29 rfl) rfl
theorem q3868 : (Jvm.Cond.methodLink "KnowHouse" (552 : Nat) ({ cls := "KnowHouse", name := "namesCall", desc := "(I)J" } : Jvm.MethodName)) ∈ lw_all := lw_g (lw_at lw_m15 30 rfl) rfl
theorem q3870 : (Jvm.Cond.instanceMethod ({ cls := "KnowHouse", name := "namesCall", desc := "(I)J" } : Jvm.MethodName)) ∈ lw_all := lw_g (lw_at lw_m15 32 rfl) rfl
theorem q3871 : (Jvm.Cond.code ({ cls := "KnowHouse", name := "namesCall", desc := "(I)J" } : Jvm.MethodName) prog_1_method_27_code (2 : Nat) (Option.some Jvm.ClassFile.FieldType.long)) ∈ lw_all := lw_g (lw_at lw_m15 33 rfl) rfl
theorem q3872 : (Jvm.Cond.methodLink "KnowHouse" (594 : Nat) ({ cls := "KnowHouse$CanonNames", name := "drop", desc := "(III)I" } : Jvm.MethodName)) ∈ lw_all := lw_g (lw_at lw_m15 34 rfl) rfl
theorem q3873 : (Jvm.Cond.instanceMethod ({ cls := "KnowHouse$CanonNames", name := "drop", desc := "(III)I" } : Jvm.MethodName)) ∈ lw_all := lw_g (lw_at lw_m15 35 rfl) rfl
theorem q3874 : (Jvm.Cond.selects "KnowHouse$CanonNames" ({ cls := "KnowHouse$CanonNames", name := "drop", desc := "(III)I" } : Jvm.MethodName) ({ cls := "KnowHouse$CanonNames", name := "drop", desc := "(III)I" } : Jvm.MethodName)) ∈ lw_all := lw_g (lw_at lw_m15 36 rfl) rfl
theorem q3875 : (Jvm.Cond.code ({ cls := "KnowHouse$CanonNames", name := "drop", desc := "(III)I" } : Jvm.MethodName) prog_3_method_9_code (4 : Nat) (Option.some Jvm.ClassFile.FieldType.int)) ∈ lw_all := lw_g (lw_at lw_m15 37 rfl) rfl
theorem q3880 : (Jvm.Cond.methodLink "KnowHouse" (599 : Nat) ({ cls := "KnowHouse$CanonNames", name := "named", desc := "(I)I" } : Jvm.MethodName)) ∈ lw_all := lw_g (lw_at lw_m15 42 rfl) rfl
theorem q3881 : (Jvm.Cond.instanceMethod ({ cls := "KnowHouse$CanonNames", name := "named", desc := "(I)I" } : Jvm.MethodName)) ∈ lw_all := lw_g (lw_at lw_m15 43 rfl) rfl
theorem q3882 : (Jvm.Cond.selects "KnowHouse$CanonNames" ({ cls := "KnowHouse$CanonNames", name := "named", desc := "(I)I" } : Jvm.MethodName) ({ cls := "KnowHouse$CanonNames", name := "named", desc := "(I)I" } : Jvm.MethodName)) ∈ lw_all := lw_g (lw_at lw_m15 44 rfl) rfl
theorem q3883 : (Jvm.Cond.code ({ cls := "KnowHouse$CanonNames", name := "named", desc := "(I)I" } : Jvm.MethodName) prog_3_method_24_code (2 : Nat) (Option.some Jvm.ClassFile.FieldType.int)) ∈ lw_all := lw_g (lw_at lw_m15 45 rfl) rfl
theorem q3884 : (Jvm.Cond.methodLink "KnowHouse" (601 : Nat) ({ cls := "KnowHouse$CanonNames", name := "form", desc := "(II)I" } : Jvm.MethodName)) ∈ lw_all := lw_g (lw_at lw_m15 46 rfl) rfl
theorem q3885 : (Jvm.Cond.instanceMethod ({ cls := "KnowHouse$CanonNames", name := "form", desc := "(II)I" } : Jvm.MethodName)) ∈ lw_all := lw_g (lw_at lw_m15 47 rfl) rfl
theorem q3886 : (Jvm.Cond.selects "KnowHouse$CanonNames" ({ cls := "KnowHouse$CanonNames", name := "form", desc := "(II)I" } : Jvm.MethodName) ({ cls := "KnowHouse$CanonNames", name := "form", desc := "(II)I" } : Jvm.MethodName)) ∈ lw_all := lw_g (lw_at lw_m15 48 rfl) rfl
theorem q3887 : (Jvm.Cond.code ({ cls := "KnowHouse$CanonNames", name := "form", desc := "(II)I" } : Jvm.MethodName) prog_3_method_25_code (3 : Nat) (Option.some Jvm.ClassFile.FieldType.int)) ∈ lw_all := lw_g (lw_at lw_m15 49 rfl) rfl
theorem q3888 : (Jvm.Cond.methodLink "KnowHouse" (604 : Nat) ({ cls := "KnowHouse$CanonNames", name := "hash", desc := "(II)I" } : Jvm.MethodName)) ∈ lw_all := lw_g (lw_at lw_m15 50 rfl) rfl
theorem q3889 : (Jvm.Cond.instanceMethod ({ cls := "KnowHouse$CanonNames", name := "hash", desc := "(II)I" } : Jvm.MethodName)) ∈ lw_all := lw_g (lw_at lw_m15 51 rfl) rfl
theorem q3890 : (Jvm.Cond.selects "KnowHouse$CanonNames" ({ cls := "KnowHouse$CanonNames", name := "hash", desc := "(II)I" } : Jvm.MethodName) ({ cls := "KnowHouse$CanonNames", name := "hash", desc := "(II)I" } : Jvm.MethodName)) ∈ lw_all := lw_g (lw_at lw_m15 52 rfl) rfl
theorem q3891 : (Jvm.Cond.code ({ cls := "KnowHouse$CanonNames", name := "hash", desc := "(II)I" } : Jvm.MethodName) prog_3_method_17_code (3 : Nat) (Option.some Jvm.ClassFile.FieldType.int)) ∈ lw_all := lw_g (lw_at lw_m15 53 rfl) rfl
theorem q3892 : (Jvm.Cond.methodLink "KnowHouse" (606 : Nat) ({ cls := "KnowHouse$CanonNames", name := "rounds", desc := "()I" } : Jvm.MethodName)) ∈ lw_all := lw_g (lw_at lw_m15 54 rfl) rfl
theorem q3893 : (Jvm.Cond.instanceMethod ({ cls := "KnowHouse$CanonNames", name := "rounds", desc := "()I" } : Jvm.MethodName)) ∈ lw_all := lw_g (lw_at lw_m15 55 rfl) rfl
theorem q3894 : (Jvm.Cond.selects "KnowHouse$CanonNames" ({ cls := "KnowHouse$CanonNames", name := "rounds", desc := "()I" } : Jvm.MethodName) ({ cls := "KnowHouse$CanonNames", name := "rounds", desc := "()I" } : Jvm.MethodName)) ∈ lw_all := lw_g (lw_at lw_m15 56 rfl) rfl
theorem q3895 : (Jvm.Cond.code ({ cls := "KnowHouse$CanonNames", name := "rounds", desc := "()I" } : Jvm.MethodName) prog_3_method_18_code (1 : Nat) (Option.some Jvm.ClassFile.FieldType.int)) ∈ lw_all := lw_g (lw_at lw_m15 57 rfl) rfl
theorem q3896 : (Jvm.Cond.methodLink "KnowHouse" (608 : Nat) ({ cls := "KnowHouse$CanonNames", name := "first", desc := "(II)I" } : Jvm.MethodName)) ∈ lw_all := lw_g (lw_at lw_m15 58 rfl) rfl
theorem q3897 : (Jvm.Cond.instanceMethod ({ cls := "KnowHouse$CanonNames", name := "first", desc := "(II)I" } : Jvm.MethodName)) ∈ lw_all := lw_g (lw_at lw_m15 59 rfl) rfl
theorem q3898 : (Jvm.Cond.selects "KnowHouse$CanonNames" ({ cls := "KnowHouse$CanonNames", name := "first", desc := "(II)I" } : Jvm.MethodName) ({ cls := "KnowHouse$CanonNames", name := "first", desc := "(II)I" } : Jvm.MethodName)) ∈ lw_all := lw_g (lw_at lw_m15 60 rfl) rfl
theorem q3899 : (Jvm.Cond.code ({ cls := "KnowHouse$CanonNames", name := "first", desc := "(II)I" } : Jvm.MethodName) prog_3_method_19_code (3 : Nat) (Option.some Jvm.ClassFile.FieldType.int)) ∈ lw_all := lw_g (lw_at lw_m15 61 rfl) rfl
theorem q3900 : (Jvm.Cond.methodLink "KnowHouse" (614 : Nat) ({ cls := "KnowHouse$CanonNames", name := "ways", desc := "(I)I" } : Jvm.MethodName)) ∈ lw_all := lw_g (lw_at lw_m15 62 rfl) rfl
theorem q3901 : (Jvm.Cond.instanceMethod ({ cls := "KnowHouse$CanonNames", name := "ways", desc := "(I)I" } : Jvm.MethodName)) ∈ lw_all := lw_g (lw_at lw_m15 63 rfl) rfl
theorem q3902 : (Jvm.Cond.selects "KnowHouse$CanonNames" ({ cls := "KnowHouse$CanonNames", name := "ways", desc := "(I)I" } : Jvm.MethodName) ({ cls := "KnowHouse$CanonNames", name := "ways", desc := "(I)I" } : Jvm.MethodName)) ∈ lw_all := lw_g (lw_at lw_m15 64 rfl) rfl
theorem q3903 : (Jvm.Cond.code ({ cls := "KnowHouse$CanonNames", name := "ways", desc := "(I)I" } : Jvm.MethodName) prog_3_method_30_code (2 : Nat) (Option.some Jvm.ClassFile.FieldType.int)) ∈ lw_all := lw_g (lw_at lw_m15 65 rfl) rfl
theorem q3905 : (Jvm.Cond.methodLink "KnowHouse" (616 : Nat) ({ cls := "KnowHouse$CanonNames", name := "equal", desc := "(I)I" } : Jvm.MethodName)) ∈ lw_all := lw_g (lw_at lw_m15 67 rfl) rfl
theorem q3906 : (Jvm.Cond.instanceMethod ({ cls := "KnowHouse$CanonNames", name := "equal", desc := "(I)I" } : Jvm.MethodName)) ∈ lw_all := lw_g (lw_at lw_m15 68 rfl) rfl
theorem q3907 : (Jvm.Cond.selects "KnowHouse$CanonNames" ({ cls := "KnowHouse$CanonNames", name := "equal", desc := "(I)I" } : Jvm.MethodName) ({ cls := "KnowHouse$CanonNames", name := "equal", desc := "(I)I" } : Jvm.MethodName)) ∈ lw_all := lw_g (lw_at lw_m15 69 rfl) rfl
theorem q3908 : (Jvm.Cond.code ({ cls := "KnowHouse$CanonNames", name := "equal", desc := "(I)I" } : Jvm.MethodName) prog_3_method_34_code (2 : Nat) (Option.some Jvm.ClassFile.FieldType.int)) ∈ lw_all := lw_g (lw_at lw_m15 70 rfl) rfl
theorem q3913 : (Jvm.Cond.methodLink "KnowHouse" (620 : Nat) ({ cls := "KnowHouse$CanonNames", name := "blanks", desc := "()I" } : Jvm.MethodName)) ∈ lw_all := lw_g (lw_at lw_m15 75 rfl) rfl
theorem q3914 : (Jvm.Cond.instanceMethod ({ cls := "KnowHouse$CanonNames", name := "blanks", desc := "()I" } : Jvm.MethodName)) ∈ lw_all := lw_g (lw_at lw_m15 76 rfl) rfl
theorem q3915 : (Jvm.Cond.selects "KnowHouse$CanonNames" ({ cls := "KnowHouse$CanonNames", name := "blanks", desc := "()I" } : Jvm.MethodName) ({ cls := "KnowHouse$CanonNames", name := "blanks", desc := "()I" } : Jvm.MethodName)) ∈ lw_all := lw_g (lw_at lw_m15 77 rfl) rfl
theorem q3916 : (Jvm.Cond.code ({ cls := "KnowHouse$CanonNames", name := "blanks", desc := "()I" } : Jvm.MethodName) prog_3_method_36_code (1 : Nat) (Option.some Jvm.ClassFile.FieldType.int)) ∈ lw_all := lw_g (lw_at lw_m15 78 rfl) rfl
theorem q3917 : (Jvm.Cond.methodLink "KnowHouse" (555 : Nat) ({ cls := "KnowHouse", name := "versionsCall", desc := "(I)J" } : Jvm.MethodName)) ∈ lw_all := lw_g (lw_at lw_m15 79 rfl) rfl
theorem q3919 : (Jvm.Cond.instanceMethod ({ cls := "KnowHouse", name := "versionsCall", desc := "(I)J" } : Jvm.MethodName)) ∈ lw_all := lw_g (lw_at lw_m15 81 rfl) rfl
theorem q3920 : (Jvm.Cond.code ({ cls := "KnowHouse", name := "versionsCall", desc := "(I)J" } : Jvm.MethodName) prog_1_method_28_code (2 : Nat) (Option.some Jvm.ClassFile.FieldType.long)) ∈ lw_all := lw_g (lw_at lw_m15 82 rfl) rfl
theorem q3921 : (Jvm.Cond.methodLink "KnowHouse" (624 : Nat) ({ cls := "KnowHouse$VersionTrans", name := "look", desc := "(I)I" } : Jvm.MethodName)) ∈ lw_all := lw_g (lw_at lw_m15 83 rfl) rfl
theorem q3922 : (Jvm.Cond.instanceMethod ({ cls := "KnowHouse$VersionTrans", name := "look", desc := "(I)I" } : Jvm.MethodName)) ∈ lw_all := lw_g (lw_at lw_m15 84 rfl) rfl
theorem q3923 : (Jvm.Cond.selects "KnowHouse$VersionTrans" ({ cls := "KnowHouse$VersionTrans", name := "look", desc := "(I)I" } : Jvm.MethodName) ({ cls := "KnowHouse$VersionTrans", name := "look", desc := "(I)I" } : Jvm.MethodName)) ∈ lw_all := lw_g (lw_at lw_m15 85 rfl) rfl
theorem q3924 : (Jvm.Cond.code ({ cls := "KnowHouse$VersionTrans", name := "look", desc := "(I)I" } : Jvm.MethodName) prog_65_method_10_code (2 : Nat) (Option.some Jvm.ClassFile.FieldType.int)) ∈ lw_all := lw_g (lw_at lw_m15 86 rfl) rfl
theorem q3935 : (Jvm.Cond.methodLink "KnowHouse" (632 : Nat) ({ cls := "KnowHouse$VersionTrans", name := "note", desc := "(II)I" } : Jvm.MethodName)) ∈ lw_all := lw_g (lw_at lw_m15 97 rfl) rfl
theorem q3936 : (Jvm.Cond.instanceMethod ({ cls := "KnowHouse$VersionTrans", name := "note", desc := "(II)I" } : Jvm.MethodName)) ∈ lw_all := lw_g (lw_at lw_m15 98 rfl) rfl
theorem q3937 : (Jvm.Cond.selects "KnowHouse$VersionTrans" ({ cls := "KnowHouse$VersionTrans", name := "note", desc := "(II)I" } : Jvm.MethodName) ({ cls := "KnowHouse$VersionTrans", name := "note", desc := "(II)I" } : Jvm.MethodName)) ∈ lw_all := lw_g (lw_at lw_m15 99 rfl) rfl
theorem q3938 : (Jvm.Cond.code ({ cls := "KnowHouse$VersionTrans", name := "note", desc := "(II)I" } : Jvm.MethodName) prog_65_method_19_code (10 : Nat) (Option.some Jvm.ClassFile.FieldType.int)) ∈ lw_all := lw_g (lw_at lw_m15 100 rfl) rfl
theorem q3939 : (Jvm.Cond.methodLink "KnowHouse" (634 : Nat) ({ cls := "KnowHouse$VersionTrans", name := "read", desc := "(II)Z" } : Jvm.MethodName)) ∈ lw_all := lw_g (lw_at lw_m15 101 rfl) rfl
theorem q3940 : (Jvm.Cond.instanceMethod ({ cls := "KnowHouse$VersionTrans", name := "read", desc := "(II)Z" } : Jvm.MethodName)) ∈ lw_all := lw_g (lw_at lw_m15 102 rfl) rfl
theorem q3941 : (Jvm.Cond.selects "KnowHouse$VersionTrans" ({ cls := "KnowHouse$VersionTrans", name := "read", desc := "(II)Z" } : Jvm.MethodName) ({ cls := "KnowHouse$VersionTrans", name := "read", desc := "(II)Z" } : Jvm.MethodName)) ∈ lw_all := lw_g (lw_at lw_m15 103 rfl) rfl
theorem q3942 : (Jvm.Cond.code ({ cls := "KnowHouse$VersionTrans", name := "read", desc := "(II)Z" } : Jvm.MethodName) prog_65_method_20_code (4 : Nat) (Option.some Jvm.ClassFile.FieldType.boolean)) ∈ lw_all := lw_g (lw_at lw_m15 104 rfl) rfl
theorem q3953 : (Jvm.Cond.methodLink "KnowHouse" (637 : Nat) ({ cls := "KnowHouse", name := "told", desc := "(Z)J" } : Jvm.MethodName)) ∈ lw_all := lw_g (lw_at lw_m15 115 rfl) rfl
theorem q3954 : (Jvm.Cond.static ({ cls := "KnowHouse", name := "told", desc := "(Z)J" } : Jvm.MethodName)) ∈ lw_all := lw_g (lw_at lw_m15 116 rfl) rfl
theorem q3955 : (Jvm.Cond.code ({ cls := "KnowHouse", name := "told", desc := "(Z)J" } : Jvm.MethodName) prog_1_method_25_code (1 : Nat) (Option.some Jvm.ClassFile.FieldType.long)) ∈ lw_all := lw_g (lw_at lw_m15 117 rfl) rfl
theorem q3956 : (Jvm.Cond.methodLink "KnowHouse" (646 : Nat) ({ cls := "KnowHouse$VersionTrans", name := "pin", desc := "(I)I" } : Jvm.MethodName)) ∈ lw_all := lw_g (lw_at lw_m15 118 rfl) rfl
theorem q3957 : (Jvm.Cond.instanceMethod ({ cls := "KnowHouse$VersionTrans", name := "pin", desc := "(I)I" } : Jvm.MethodName)) ∈ lw_all := lw_g (lw_at lw_m15 119 rfl) rfl
theorem q3958 : (Jvm.Cond.selects "KnowHouse$VersionTrans" ({ cls := "KnowHouse$VersionTrans", name := "pin", desc := "(I)I" } : Jvm.MethodName) ({ cls := "KnowHouse$VersionTrans", name := "pin", desc := "(I)I" } : Jvm.MethodName)) ∈ lw_all := lw_g (lw_at lw_m15 120 rfl) rfl
theorem q3959 : (Jvm.Cond.code ({ cls := "KnowHouse$VersionTrans", name := "pin", desc := "(I)I" } : Jvm.MethodName) prog_65_method_26_code (3 : Nat) (Option.some Jvm.ClassFile.FieldType.int)) ∈ lw_all := lw_g (lw_at lw_m15 121 rfl) rfl
theorem q3982 : (Jvm.Cond.methodLink "KnowHouse" (648 : Nat) ({ cls := "KnowHouse$VersionTrans", name := "unpin", desc := "(I)I" } : Jvm.MethodName)) ∈ lw_all := lw_g (lw_at lw_m15 144 rfl) rfl
theorem q3983 : (Jvm.Cond.instanceMethod ({ cls := "KnowHouse$VersionTrans", name := "unpin", desc := "(I)I" } : Jvm.MethodName)) ∈ lw_all := lw_g (lw_at lw_m15 145 rfl) rfl
theorem q3984 : (Jvm.Cond.selects "KnowHouse$VersionTrans" ({ cls := "KnowHouse$VersionTrans", name := "unpin", desc := "(I)I" } : Jvm.MethodName) ({ cls := "KnowHouse$VersionTrans", name := "unpin", desc := "(I)I" } : Jvm.MethodName)) ∈ lw_all := lw_g (lw_at lw_m15 146 rfl) rfl
theorem q3985 : (Jvm.Cond.code ({ cls := "KnowHouse$VersionTrans", name := "unpin", desc := "(I)I" } : Jvm.MethodName) prog_65_method_27_code (3 : Nat) (Option.some Jvm.ClassFile.FieldType.int)) ∈ lw_all := lw_g (lw_at lw_m15 147 rfl) rfl
theorem q3986 : (Jvm.Cond.methodLink "KnowHouse" (650 : Nat) ({ cls := "KnowHouse$VersionTrans", name := "free", desc := "()I" } : Jvm.MethodName)) ∈ lw_all := lw_g (lw_at lw_m15 148 rfl) rfl
theorem q3987 : (Jvm.Cond.instanceMethod ({ cls := "KnowHouse$VersionTrans", name := "free", desc := "()I" } : Jvm.MethodName)) ∈ lw_all := lw_g (lw_at lw_m15 149 rfl) rfl
theorem q3988 : (Jvm.Cond.selects "KnowHouse$VersionTrans" ({ cls := "KnowHouse$VersionTrans", name := "free", desc := "()I" } : Jvm.MethodName) ({ cls := "KnowHouse$VersionTrans", name := "free", desc := "()I" } : Jvm.MethodName)) ∈ lw_all := lw_g (lw_at lw_m15 150 rfl) rfl
theorem q3989 : (Jvm.Cond.code ({ cls := "KnowHouse$VersionTrans", name := "free", desc := "()I" } : Jvm.MethodName) prog_65_method_29_code (7 : Nat) (Option.some Jvm.ClassFile.FieldType.int)) ∈ lw_all := lw_g (lw_at lw_m15 151 rfl) rfl
theorem q3990 : (Jvm.Cond.methodLink "KnowHouse" (652 : Nat) ({ cls := "KnowHouse$VersionTrans", name := "rows", desc := "()I" } : Jvm.MethodName)) ∈ lw_all := lw_g (lw_at lw_m15 152 rfl) rfl
theorem q3991 : (Jvm.Cond.instanceMethod ({ cls := "KnowHouse$VersionTrans", name := "rows", desc := "()I" } : Jvm.MethodName)) ∈ lw_all := lw_g (lw_at lw_m15 153 rfl) rfl
theorem q3992 : (Jvm.Cond.selects "KnowHouse$VersionTrans" ({ cls := "KnowHouse$VersionTrans", name := "rows", desc := "()I" } : Jvm.MethodName) ({ cls := "KnowHouse$VersionTrans", name := "rows", desc := "()I" } : Jvm.MethodName)) ∈ lw_all := lw_g (lw_at lw_m15 154 rfl) rfl
theorem q3993 : (Jvm.Cond.code ({ cls := "KnowHouse$VersionTrans", name := "rows", desc := "()I" } : Jvm.MethodName) prog_65_method_30_code (1 : Nat) (Option.some Jvm.ClassFile.FieldType.int)) ∈ lw_all := lw_g (lw_at lw_m15 155 rfl) rfl
theorem q3994 : (Jvm.Cond.methodLink "KnowHouse" (656 : Nat) ({ cls := "KnowHouse$VersionTrans", name := "least", desc := "()I" } : Jvm.MethodName)) ∈ lw_all := lw_g (lw_at lw_m15 156 rfl) rfl
theorem q3995 : (Jvm.Cond.methodLink "KnowHouse" (658 : Nat) ({ cls := "KnowHouse$VersionTrans", name := "state", desc := "(I)I" } : Jvm.MethodName)) ∈ lw_all := lw_g (lw_at lw_m15 157 rfl) rfl
theorem q3996 : (Jvm.Cond.instanceMethod ({ cls := "KnowHouse$VersionTrans", name := "state", desc := "(I)I" } : Jvm.MethodName)) ∈ lw_all := lw_g (lw_at lw_m15 158 rfl) rfl
theorem q3997 : (Jvm.Cond.selects "KnowHouse$VersionTrans" ({ cls := "KnowHouse$VersionTrans", name := "state", desc := "(I)I" } : Jvm.MethodName) ({ cls := "KnowHouse$VersionTrans", name := "state", desc := "(I)I" } : Jvm.MethodName)) ∈ lw_all := lw_g (lw_at lw_m15 159 rfl) rfl
theorem q3998 : (Jvm.Cond.code ({ cls := "KnowHouse$VersionTrans", name := "state", desc := "(I)I" } : Jvm.MethodName) prog_65_method_32_code (2 : Nat) (Option.some Jvm.ClassFile.FieldType.int)) ∈ lw_all := lw_g (lw_at lw_m15 160 rfl) rfl
theorem q4005 : (Jvm.Cond.methodLink "KnowHouse" (660 : Nat) ({ cls := "KnowHouse$VersionTrans", name := "waits", desc := "(I)I" } : Jvm.MethodName)) ∈ lw_all := lw_g (lw_at lw_m15 167 rfl) rfl
theorem q4006 : (Jvm.Cond.instanceMethod ({ cls := "KnowHouse$VersionTrans", name := "waits", desc := "(I)I" } : Jvm.MethodName)) ∈ lw_all := lw_g (lw_at lw_m15 168 rfl) rfl
theorem q4007 : (Jvm.Cond.selects "KnowHouse$VersionTrans" ({ cls := "KnowHouse$VersionTrans", name := "waits", desc := "(I)I" } : Jvm.MethodName) ({ cls := "KnowHouse$VersionTrans", name := "waits", desc := "(I)I" } : Jvm.MethodName)) ∈ lw_all := lw_g (lw_at lw_m15 169 rfl) rfl
theorem q4008 : (Jvm.Cond.code ({ cls := "KnowHouse$VersionTrans", name := "waits", desc := "(I)I" } : Jvm.MethodName) prog_65_method_33_code (4 : Nat) (Option.some Jvm.ClassFile.FieldType.int)) ∈ lw_all := lw_g (lw_at lw_m15 170 rfl) rfl
theorem q4009 : (Jvm.Cond.methodLink "KnowHouse" (662 : Nat) ({ cls := "KnowHouse$VersionTrans", name := "ring", desc := "(I)I" } : Jvm.MethodName)) ∈ lw_all := lw_g (lw_at lw_m15 171 rfl) rfl
theorem q4010 : (Jvm.Cond.instanceMethod ({ cls := "KnowHouse$VersionTrans", name := "ring", desc := "(I)I" } : Jvm.MethodName)) ∈ lw_all := lw_g (lw_at lw_m15 172 rfl) rfl
theorem q4011 : (Jvm.Cond.selects "KnowHouse$VersionTrans" ({ cls := "KnowHouse$VersionTrans", name := "ring", desc := "(I)I" } : Jvm.MethodName) ({ cls := "KnowHouse$VersionTrans", name := "ring", desc := "(I)I" } : Jvm.MethodName)) ∈ lw_all := lw_g (lw_at lw_m15 173 rfl) rfl
theorem q4012 : (Jvm.Cond.code ({ cls := "KnowHouse$VersionTrans", name := "ring", desc := "(I)I" } : Jvm.MethodName) prog_65_method_34_code (2 : Nat) (Option.some Jvm.ClassFile.FieldType.int)) ∈ lw_all := lw_g (lw_at lw_m15 174 rfl) rfl
theorem q4013 : (Jvm.Cond.methodLink "KnowHouse" (664 : Nat) ({ cls := "KnowHouse$VersionTrans", name := "conflicts", desc := "(II)I" } : Jvm.MethodName)) ∈ lw_all := lw_g (lw_at lw_m15 175 rfl) rfl
theorem q4014 : (Jvm.Cond.instanceMethod ({ cls := "KnowHouse$VersionTrans", name := "conflicts", desc := "(II)I" } : Jvm.MethodName)) ∈ lw_all := lw_g (lw_at lw_m15 176 rfl) rfl
theorem q4015 : (Jvm.Cond.selects "KnowHouse$VersionTrans" ({ cls := "KnowHouse$VersionTrans", name := "conflicts", desc := "(II)I" } : Jvm.MethodName) ({ cls := "KnowHouse$VersionTrans", name := "conflicts", desc := "(II)I" } : Jvm.MethodName)) ∈ lw_all := lw_g (lw_at lw_m15 177 rfl) rfl
theorem q4016 : (Jvm.Cond.code ({ cls := "KnowHouse$VersionTrans", name := "conflicts", desc := "(II)I" } : Jvm.MethodName) prog_65_method_35_code (3 : Nat) (Option.some Jvm.ClassFile.FieldType.int)) ∈ lw_all := lw_g (lw_at lw_m15 178 rfl) rfl
theorem q4017 : (Jvm.Cond.methodLink "KnowHouse" (558 : Nat) ({ cls := "KnowHouse", name := "valuesCall", desc := "(I)J" } : Jvm.MethodName)) ∈ lw_all := lw_g (lw_at lw_m15 179 rfl) rfl
theorem q4019 : (Jvm.Cond.instanceMethod ({ cls := "KnowHouse", name := "valuesCall", desc := "(I)J" } : Jvm.MethodName)) ∈ lw_all := lw_g (lw_at lw_m15 181 rfl) rfl
theorem q4020 : (Jvm.Cond.code ({ cls := "KnowHouse", name := "valuesCall", desc := "(I)J" } : Jvm.MethodName) prog_1_method_29_code (2 : Nat) (Option.some Jvm.ClassFile.FieldType.long)) ∈ lw_all := lw_g (lw_at lw_m15 182 rfl) rfl
theorem q4021 : (Jvm.Cond.methodLink "KnowHouse" (666 : Nat) ({ cls := "KnowHouse$DatatypeValues", name := "type", desc := "(JI)I" } : Jvm.MethodName)) ∈ lw_all := lw_g (lw_at lw_m15 183 rfl) rfl
theorem q4022 : (Jvm.Cond.instanceMethod ({ cls := "KnowHouse$DatatypeValues", name := "type", desc := "(JI)I" } : Jvm.MethodName)) ∈ lw_all := lw_g (lw_at lw_m15 184 rfl) rfl
theorem q4023 : (Jvm.Cond.selects "KnowHouse$DatatypeValues" ({ cls := "KnowHouse$DatatypeValues", name := "type", desc := "(JI)I" } : Jvm.MethodName) ({ cls := "KnowHouse$DatatypeValues", name := "type", desc := "(JI)I" } : Jvm.MethodName)) ∈ lw_all := lw_g (lw_at lw_m15 185 rfl) rfl
theorem q4024 : (Jvm.Cond.code ({ cls := "KnowHouse$DatatypeValues", name := "type", desc := "(JI)I" } : Jvm.MethodName) prog_10_method_2_code (5 : Nat) (Option.some Jvm.ClassFile.FieldType.int)) ∈ lw_all := lw_g (lw_at lw_m15 186 rfl) rfl
theorem q4025 : (Jvm.Cond.methodLink "KnowHouse" (669 : Nat) ({ cls := "KnowHouse$DatatypeValues", name := "read", desc := "(I)I" } : Jvm.MethodName)) ∈ lw_all := lw_g (lw_at lw_m15 187 rfl) rfl
theorem q4026 : (Jvm.Cond.instanceMethod ({ cls := "KnowHouse$DatatypeValues", name := "read", desc := "(I)I" } : Jvm.MethodName)) ∈ lw_all := lw_g (lw_at lw_m15 188 rfl) rfl
theorem q4027 : (Jvm.Cond.selects "KnowHouse$DatatypeValues" ({ cls := "KnowHouse$DatatypeValues", name := "read", desc := "(I)I" } : Jvm.MethodName) ({ cls := "KnowHouse$DatatypeValues", name := "read", desc := "(I)I" } : Jvm.MethodName)) ∈ lw_all := lw_g (lw_at lw_m15 189 rfl) rfl
theorem q4028 : (Jvm.Cond.code ({ cls := "KnowHouse$DatatypeValues", name := "read", desc := "(I)I" } : Jvm.MethodName) prog_10_method_4_code (4 : Nat) (Option.some Jvm.ClassFile.FieldType.int)) ∈ lw_all := lw_g (lw_at lw_m15 190 rfl) rfl
theorem q4329 : (Jvm.Cond.methodLink "KnowHouse" (671 : Nat) ({ cls := "KnowHouse$DatatypeValues", name := "values", desc := "()I" } : Jvm.MethodName)) ∈ lw_all := lw_g (lw_at lw_m17 11 rfl) rfl
theorem q4330 : (Jvm.Cond.instanceMethod ({ cls := "KnowHouse$DatatypeValues", name := "values", desc := "()I" } : Jvm.MethodName)) ∈ lw_all := lw_g (lw_at lw_m17 12 rfl) rfl
theorem q4331 : (Jvm.Cond.selects "KnowHouse$DatatypeValues" ({ cls := "KnowHouse$DatatypeValues", name := "values", desc := "()I" } : Jvm.MethodName) ({ cls := "KnowHouse$DatatypeValues", name := "values", desc := "()I" } : Jvm.MethodName)) ∈ lw_all := lw_g (lw_at lw_m17 13 rfl) rfl
theorem q4332 : (Jvm.Cond.code ({ cls := "KnowHouse$DatatypeValues", name := "values", desc := "()I" } : Jvm.MethodName) prog_10_method_5_code (1 : Nat) (Option.some Jvm.ClassFile.FieldType.int)) ∈ lw_all := lw_g (lw_at lw_m17 14 rfl) rfl
theorem q4333 : (Jvm.Cond.methodLink "KnowHouse" (673 : Nat) ({ cls := "KnowHouse$DatatypeValues", name := "kind", desc := "(I)I" } : Jvm.MethodName)) ∈ lw_all := lw_g (lw_at lw_m17 15 rfl) rfl
theorem q4334 : (Jvm.Cond.instanceMethod ({ cls := "KnowHouse$DatatypeValues", name := "kind", desc := "(I)I" } : Jvm.MethodName)) ∈ lw_all := lw_g (lw_at lw_m17 16 rfl) rfl
theorem q4335 : (Jvm.Cond.selects "KnowHouse$DatatypeValues" ({ cls := "KnowHouse$DatatypeValues", name := "kind", desc := "(I)I" } : Jvm.MethodName) ({ cls := "KnowHouse$DatatypeValues", name := "kind", desc := "(I)I" } : Jvm.MethodName)) ∈ lw_all := lw_g (lw_at lw_m17 17 rfl) rfl
theorem q4336 : (Jvm.Cond.code ({ cls := "KnowHouse$DatatypeValues", name := "kind", desc := "(I)I" } : Jvm.MethodName) prog_10_method_7_code (3 : Nat) (Option.some Jvm.ClassFile.FieldType.int)) ∈ lw_all := lw_g (lw_at lw_m17 18 rfl) rfl
theorem q4341 : (Jvm.Cond.methodLink "KnowHouse" (675 : Nat) ({ cls := "KnowHouse$DatatypeValues", name := "compare", desc := "(II)I" } : Jvm.MethodName)) ∈ lw_all := lw_g (lw_at lw_m17 23 rfl) rfl
theorem q4342 : (Jvm.Cond.instanceMethod ({ cls := "KnowHouse$DatatypeValues", name := "compare", desc := "(II)I" } : Jvm.MethodName)) ∈ lw_all := lw_g (lw_at lw_m17 24 rfl) rfl
theorem q4343 : (Jvm.Cond.selects "KnowHouse$DatatypeValues" ({ cls := "KnowHouse$DatatypeValues", name := "compare", desc := "(II)I" } : Jvm.MethodName) ({ cls := "KnowHouse$DatatypeValues", name := "compare", desc := "(II)I" } : Jvm.MethodName)) ∈ lw_all := lw_g (lw_at lw_m17 25 rfl) rfl
theorem q4344 : (Jvm.Cond.code ({ cls := "KnowHouse$DatatypeValues", name := "compare", desc := "(II)I" } : Jvm.MethodName) prog_10_method_8_code (5 : Nat) (Option.some Jvm.ClassFile.FieldType.int)) ∈ lw_all := lw_g (lw_at lw_m17 26 rfl) rfl
theorem q4402 : (Jvm.Cond.methodLink "KnowHouse" (677 : Nat) ({ cls := "KnowHouse$DatatypeValues", name := "part", desc := "(II)J" } : Jvm.MethodName)) ∈ lw_all := lw_g (lw_at lw_m17 84 rfl) rfl
theorem q4403 : (Jvm.Cond.instanceMethod ({ cls := "KnowHouse$DatatypeValues", name := "part", desc := "(II)J" } : Jvm.MethodName)) ∈ lw_all := lw_g (lw_at lw_m17 85 rfl) rfl
theorem q4404 : (Jvm.Cond.selects "KnowHouse$DatatypeValues" ({ cls := "KnowHouse$DatatypeValues", name := "part", desc := "(II)J" } : Jvm.MethodName) ({ cls := "KnowHouse$DatatypeValues", name := "part", desc := "(II)J" } : Jvm.MethodName)) ∈ lw_all := lw_g (lw_at lw_m17 86 rfl) rfl
theorem q4405 : (Jvm.Cond.code ({ cls := "KnowHouse$DatatypeValues", name := "part", desc := "(II)J" } : Jvm.MethodName) prog_10_method_9_code (4 : Nat) (Option.some Jvm.ClassFile.FieldType.long)) ∈ lw_all := lw_g (lw_at lw_m17 87 rfl) rfl
theorem q4425 : (Jvm.Cond.methodLink "KnowHouse" (679 : Nat) ({ cls := "KnowHouse$DatatypeValues", name := "byteOf", desc := "(II)I" } : Jvm.MethodName)) ∈ lw_all := lw_g (lw_at lw_m17 107 rfl) rfl
theorem q4426 : (Jvm.Cond.instanceMethod ({ cls := "KnowHouse$DatatypeValues", name := "byteOf", desc := "(II)I" } : Jvm.MethodName)) ∈ lw_all := lw_g (lw_at lw_m17 108 rfl) rfl
theorem q4427 : (Jvm.Cond.selects "KnowHouse$DatatypeValues" ({ cls := "KnowHouse$DatatypeValues", name := "byteOf", desc := "(II)I" } : Jvm.MethodName) ({ cls := "KnowHouse$DatatypeValues", name := "byteOf", desc := "(II)I" } : Jvm.MethodName)) ∈ lw_all := lw_g (lw_at lw_m17 109 rfl) rfl
theorem q4428 : (Jvm.Cond.code ({ cls := "KnowHouse$DatatypeValues", name := "byteOf", desc := "(II)I" } : Jvm.MethodName) prog_10_method_12_code (5 : Nat) (Option.some Jvm.ClassFile.FieldType.int)) ∈ lw_all := lw_g (lw_at lw_m17 110 rfl) rfl
theorem q4430 : (Jvm.Cond.methodLink "KnowHouse" (681 : Nat) ({ cls := "KnowHouse$DatatypeValues", name := "tell", desc := "(I)I" } : Jvm.MethodName)) ∈ lw_all := lw_g (lw_at lw_m17 112 rfl) rfl
theorem q4431 : (Jvm.Cond.instanceMethod ({ cls := "KnowHouse$DatatypeValues", name := "tell", desc := "(I)I" } : Jvm.MethodName)) ∈ lw_all := lw_g (lw_at lw_m17 113 rfl) rfl
theorem q4432 : (Jvm.Cond.selects "KnowHouse$DatatypeValues" ({ cls := "KnowHouse$DatatypeValues", name := "tell", desc := "(I)I" } : Jvm.MethodName) ({ cls := "KnowHouse$DatatypeValues", name := "tell", desc := "(I)I" } : Jvm.MethodName)) ∈ lw_all := lw_g (lw_at lw_m17 114 rfl) rfl
theorem q4433 : (Jvm.Cond.code ({ cls := "KnowHouse$DatatypeValues", name := "tell", desc := "(I)I" } : Jvm.MethodName) prog_10_method_13_code (3 : Nat) (Option.some Jvm.ClassFile.FieldType.int)) ∈ lw_all := lw_g (lw_at lw_m17 115 rfl) rfl
theorem q4519 : (Jvm.Cond.methodLink "KnowHouse" (683 : Nat) ({ cls := "KnowHouse$DatatypeValues", name := "told", desc := "(I)I" } : Jvm.MethodName)) ∈ lw_all := lw_g (lw_at lw_m17 201 rfl) rfl
theorem q4520 : (Jvm.Cond.instanceMethod ({ cls := "KnowHouse$DatatypeValues", name := "told", desc := "(I)I" } : Jvm.MethodName)) ∈ lw_all := lw_g (lw_at lw_m17 202 rfl) rfl
theorem q4521 : (Jvm.Cond.selects "KnowHouse$DatatypeValues" ({ cls := "KnowHouse$DatatypeValues", name := "told", desc := "(I)I" } : Jvm.MethodName) ({ cls := "KnowHouse$DatatypeValues", name := "told", desc := "(I)I" } : Jvm.MethodName)) ∈ lw_all := lw_g (lw_at lw_m17 203 rfl) rfl
theorem q4522 : (Jvm.Cond.code ({ cls := "KnowHouse$DatatypeValues", name := "told", desc := "(I)I" } : Jvm.MethodName) prog_10_method_14_code (2 : Nat) (Option.some Jvm.ClassFile.FieldType.int)) ∈ lw_all := lw_g (lw_at lw_m17 204 rfl) rfl
theorem q4523 : (Jvm.Cond.methodLink "KnowHouse" (685 : Nat) ({ cls := "KnowHouse$DatatypeValues", name := "apply", desc := "(III)I" } : Jvm.MethodName)) ∈ lw_all := lw_g (lw_at lw_m17 205 rfl) rfl
theorem q4524 : (Jvm.Cond.instanceMethod ({ cls := "KnowHouse$DatatypeValues", name := "apply", desc := "(III)I" } : Jvm.MethodName)) ∈ lw_all := lw_g (lw_at lw_m17 206 rfl) rfl
theorem q4525 : (Jvm.Cond.selects "KnowHouse$DatatypeValues" ({ cls := "KnowHouse$DatatypeValues", name := "apply", desc := "(III)I" } : Jvm.MethodName) ({ cls := "KnowHouse$DatatypeValues", name := "apply", desc := "(III)I" } : Jvm.MethodName)) ∈ lw_all := lw_g (lw_at lw_m17 207 rfl) rfl
theorem q4526 : (Jvm.Cond.code ({ cls := "KnowHouse$DatatypeValues", name := "apply", desc := "(III)I" } : Jvm.MethodName) prog_10_method_18_code (14 : Nat) (Option.some Jvm.ClassFile.FieldType.int)) ∈ lw_all := lw_g (lw_at lw_m17 208 rfl) rfl
theorem q4557 : (Jvm.Cond.methodLink "KnowHouse" (561 : Nat) ({ cls := "KnowHouse", name := "proofsCall", desc := "(I)J" } : Jvm.MethodName)) ∈ lw_all := lw_g (lw_at lw_m17 239 rfl) rfl
theorem q4559 : (Jvm.Cond.instanceMethod ({ cls := "KnowHouse", name := "proofsCall", desc := "(I)J" } : Jvm.MethodName)) ∈ lw_all := lw_g (lw_at lw_m18 1 rfl) rfl
theorem q4560 : (Jvm.Cond.code ({ cls := "KnowHouse", name := "proofsCall", desc := "(I)J" } : Jvm.MethodName) prog_1_method_30_code (2 : Nat) (Option.some Jvm.ClassFile.FieldType.long)) ∈ lw_all := lw_g (lw_at lw_m18 2 rfl) rfl
theorem q4561 : (Jvm.Cond.methodLink "KnowHouse" (687 : Nat) ({ cls := "KnowHouse$ProofChecker", name := "axiom", desc := "(III)I" } : Jvm.MethodName)) ∈ lw_all := lw_g (lw_at lw_m18 3 rfl) rfl
theorem q4562 : (Jvm.Cond.instanceMethod ({ cls := "KnowHouse$ProofChecker", name := "axiom", desc := "(III)I" } : Jvm.MethodName)) ∈ lw_all := lw_g (lw_at lw_m18 4 rfl) rfl
theorem q4563 : (Jvm.Cond.selects "KnowHouse$ProofChecker" ({ cls := "KnowHouse$ProofChecker", name := "axiom", desc := "(III)I" } : Jvm.MethodName) ({ cls := "KnowHouse$ProofChecker", name := "axiom", desc := "(III)I" } : Jvm.MethodName)) ∈ lw_all := lw_g (lw_at lw_m18 5 rfl) rfl
theorem q4564 : (Jvm.Cond.code ({ cls := "KnowHouse$ProofChecker", name := "axiom", desc := "(III)I" } : Jvm.MethodName) prog_25_method_5_code (4 : Nat) (Option.some Jvm.ClassFile.FieldType.int)) ∈ lw_all := lw_g (lw_at lw_m18 6 rfl) rfl
theorem q4575 : (Jvm.Cond.methodLink "KnowHouse" (689 : Nat) ({ cls := "KnowHouse$ProofChecker", name := "triple", desc := "(III)I" } : Jvm.MethodName)) ∈ lw_all := lw_g (lw_at lw_m18 17 rfl) rfl
theorem q4576 : (Jvm.Cond.instanceMethod ({ cls := "KnowHouse$ProofChecker", name := "triple", desc := "(III)I" } : Jvm.MethodName)) ∈ lw_all := lw_g (lw_at lw_m18 18 rfl) rfl
theorem q4577 : (Jvm.Cond.selects "KnowHouse$ProofChecker" ({ cls := "KnowHouse$ProofChecker", name := "triple", desc := "(III)I" } : Jvm.MethodName) ({ cls := "KnowHouse$ProofChecker", name := "triple", desc := "(III)I" } : Jvm.MethodName)) ∈ lw_all := lw_g (lw_at lw_m18 19 rfl) rfl
theorem q4578 : (Jvm.Cond.code ({ cls := "KnowHouse$ProofChecker", name := "triple", desc := "(III)I" } : Jvm.MethodName) prog_25_method_6_code (5 : Nat) (Option.some Jvm.ClassFile.FieldType.int)) ∈ lw_all := lw_g (lw_at lw_m18 20 rfl) rfl
theorem q4588 : (Jvm.Cond.methodLink "KnowHouse" (690 : Nat) ({ cls := "KnowHouse$ProofChecker", name := "row", desc := "(III)I" } : Jvm.MethodName)) ∈ lw_all := lw_g (lw_at lw_m18 30 rfl) rfl
theorem q4589 : (Jvm.Cond.instanceMethod ({ cls := "KnowHouse$ProofChecker", name := "row", desc := "(III)I" } : Jvm.MethodName)) ∈ lw_all := lw_g (lw_at lw_m18 31 rfl) rfl
theorem q4590 : (Jvm.Cond.selects "KnowHouse$ProofChecker" ({ cls := "KnowHouse$ProofChecker", name := "row", desc := "(III)I" } : Jvm.MethodName) ({ cls := "KnowHouse$ProofChecker", name := "row", desc := "(III)I" } : Jvm.MethodName)) ∈ lw_all := lw_g (lw_at lw_m18 32 rfl) rfl
theorem q4591 : (Jvm.Cond.code ({ cls := "KnowHouse$ProofChecker", name := "row", desc := "(III)I" } : Jvm.MethodName) prog_25_method_9_code (5 : Nat) (Option.some Jvm.ClassFile.FieldType.int)) ∈ lw_all := lw_g (lw_at lw_m18 33 rfl) rfl
theorem q4653 : (Jvm.Cond.methodLink "KnowHouse" (692 : Nat) ({ cls := "KnowHouse$ProofChecker", name := "premise", desc := "(II)I" } : Jvm.MethodName)) ∈ lw_all := lw_g (lw_at lw_m18 95 rfl) rfl
theorem q4654 : (Jvm.Cond.instanceMethod ({ cls := "KnowHouse$ProofChecker", name := "premise", desc := "(II)I" } : Jvm.MethodName)) ∈ lw_all := lw_g (lw_at lw_m18 96 rfl) rfl
theorem q4655 : (Jvm.Cond.selects "KnowHouse$ProofChecker" ({ cls := "KnowHouse$ProofChecker", name := "premise", desc := "(II)I" } : Jvm.MethodName) ({ cls := "KnowHouse$ProofChecker", name := "premise", desc := "(II)I" } : Jvm.MethodName)) ∈ lw_all := lw_g (lw_at lw_m18 97 rfl) rfl
theorem q4656 : (Jvm.Cond.code ({ cls := "KnowHouse$ProofChecker", name := "premise", desc := "(II)I" } : Jvm.MethodName) prog_25_method_10_code (4 : Nat) (Option.some Jvm.ClassFile.FieldType.int)) ∈ lw_all := lw_g (lw_at lw_m18 98 rfl) rfl
theorem q4658 : (Jvm.Cond.methodLink "KnowHouse" (694 : Nat) ({ cls := "KnowHouse$ProofChecker", name := "check", desc := "(I)I" } : Jvm.MethodName)) ∈ lw_all := lw_g (lw_at lw_m18 100 rfl) rfl
theorem q4659 : (Jvm.Cond.instanceMethod ({ cls := "KnowHouse$ProofChecker", name := "check", desc := "(I)I" } : Jvm.MethodName)) ∈ lw_all := lw_g (lw_at lw_m18 101 rfl) rfl
theorem q4660 : (Jvm.Cond.selects "KnowHouse$ProofChecker" ({ cls := "KnowHouse$ProofChecker", name := "check", desc := "(I)I" } : Jvm.MethodName) ({ cls := "KnowHouse$ProofChecker", name := "check", desc := "(I)I" } : Jvm.MethodName)) ∈ lw_all := lw_g (lw_at lw_m18 102 rfl) rfl
theorem q4661 : (Jvm.Cond.code ({ cls := "KnowHouse$ProofChecker", name := "check", desc := "(I)I" } : Jvm.MethodName) prog_25_method_14_code (3 : Nat) (Option.some Jvm.ClassFile.FieldType.int)) ∈ lw_all := lw_g (lw_at lw_m18 103 rfl) rfl
theorem q4780 : (Jvm.Cond.methodLink "KnowHouse" (696 : Nat) ({ cls := "KnowHouse$ProofChecker", name := "broken", desc := "()I" } : Jvm.MethodName)) ∈ lw_all := lw_g (lw_at lw_m18 222 rfl) rfl
theorem q4781 : (Jvm.Cond.instanceMethod ({ cls := "KnowHouse$ProofChecker", name := "broken", desc := "()I" } : Jvm.MethodName)) ∈ lw_all := lw_g (lw_at lw_m18 223 rfl) rfl
theorem q4782 : (Jvm.Cond.selects "KnowHouse$ProofChecker" ({ cls := "KnowHouse$ProofChecker", name := "broken", desc := "()I" } : Jvm.MethodName) ({ cls := "KnowHouse$ProofChecker", name := "broken", desc := "()I" } : Jvm.MethodName)) ∈ lw_all := lw_g (lw_at lw_m18 224 rfl) rfl
theorem q4783 : (Jvm.Cond.code ({ cls := "KnowHouse$ProofChecker", name := "broken", desc := "()I" } : Jvm.MethodName) prog_25_method_15_code (1 : Nat) (Option.some Jvm.ClassFile.FieldType.int)) ∈ lw_all := lw_g (lw_at lw_m18 225 rfl) rfl
theorem q4784 : (Jvm.Cond.methodLink "KnowHouse" (698 : Nat) ({ cls := "KnowHouse$ProofChecker", name := "rows", desc := "(I)I" } : Jvm.MethodName)) ∈ lw_all := lw_g (lw_at lw_m18 226 rfl) rfl
theorem q4785 : (Jvm.Cond.instanceMethod ({ cls := "KnowHouse$ProofChecker", name := "rows", desc := "(I)I" } : Jvm.MethodName)) ∈ lw_all := lw_g (lw_at lw_m18 227 rfl) rfl
theorem q4786 : (Jvm.Cond.selects "KnowHouse$ProofChecker" ({ cls := "KnowHouse$ProofChecker", name := "rows", desc := "(I)I" } : Jvm.MethodName) ({ cls := "KnowHouse$ProofChecker", name := "rows", desc := "(I)I" } : Jvm.MethodName)) ∈ lw_all := lw_g (lw_at lw_m18 228 rfl) rfl
theorem q4787 : (Jvm.Cond.code ({ cls := "KnowHouse$ProofChecker", name := "rows", desc := "(I)I" } : Jvm.MethodName) prog_25_method_16_code (2 : Nat) (Option.some Jvm.ClassFile.FieldType.int)) ∈ lw_all := lw_g (lw_at lw_m18 229 rfl) rfl
theorem q4788 : (Jvm.Cond.methodLink "KnowHouse" (700 : Nat) ({ cls := "KnowHouse$ProofChecker", name := "size", desc := "(I)I" } : Jvm.MethodName)) ∈ lw_all := lw_g (lw_at lw_m18 230 rfl) rfl
theorem q4789 : (Jvm.Cond.instanceMethod ({ cls := "KnowHouse$ProofChecker", name := "size", desc := "(I)I" } : Jvm.MethodName)) ∈ lw_all := lw_g (lw_at lw_m18 231 rfl) rfl
theorem q4790 : (Jvm.Cond.selects "KnowHouse$ProofChecker" ({ cls := "KnowHouse$ProofChecker", name := "size", desc := "(I)I" } : Jvm.MethodName) ({ cls := "KnowHouse$ProofChecker", name := "size", desc := "(I)I" } : Jvm.MethodName)) ∈ lw_all := lw_g (lw_at lw_m18 232 rfl) rfl
theorem q4791 : (Jvm.Cond.code ({ cls := "KnowHouse$ProofChecker", name := "size", desc := "(I)I" } : Jvm.MethodName) prog_25_method_17_code (2 : Nat) (Option.some Jvm.ClassFile.FieldType.int)) ∈ lw_all := lw_g (lw_at lw_m18 233 rfl) rfl
theorem q4792 : (Jvm.Cond.methodLink "KnowHouse" (702 : Nat) ({ cls := "KnowHouse$ProofChecker", name := "drop", desc := "(I)I" } : Jvm.MethodName)) ∈ lw_all := lw_g (lw_at lw_m18 234 rfl) rfl
theorem q4793 : (Jvm.Cond.instanceMethod ({ cls := "KnowHouse$ProofChecker", name := "drop", desc := "(I)I" } : Jvm.MethodName)) ∈ lw_all := lw_g (lw_at lw_m18 235 rfl) rfl
theorem q4794 : (Jvm.Cond.selects "KnowHouse$ProofChecker" ({ cls := "KnowHouse$ProofChecker", name := "drop", desc := "(I)I" } : Jvm.MethodName) ({ cls := "KnowHouse$ProofChecker", name := "drop", desc := "(I)I" } : Jvm.MethodName)) ∈ lw_all := lw_g (lw_at lw_m18 236 rfl) rfl
theorem q4795 : (Jvm.Cond.code ({ cls := "KnowHouse$ProofChecker", name := "drop", desc := "(I)I" } : Jvm.MethodName) prog_25_method_18_code (7 : Nat) (Option.some Jvm.ClassFile.FieldType.int)) ∈ lw_all := lw_g (lw_at lw_m18 237 rfl) rfl
theorem q4801 : (Jvm.Cond.methodLink "KnowHouse" (704 : Nat) ({ cls := "KnowHouse$ProofChecker", name := "name", desc := "(I)I" } : Jvm.MethodName)) ∈ lw_all := lw_g (lw_at lw_m19 3 rfl) rfl
theorem q4802 : (Jvm.Cond.instanceMethod ({ cls := "KnowHouse$ProofChecker", name := "name", desc := "(I)I" } : Jvm.MethodName)) ∈ lw_all := lw_g (lw_at lw_m19 4 rfl) rfl
theorem q4803 : (Jvm.Cond.selects "KnowHouse$ProofChecker" ({ cls := "KnowHouse$ProofChecker", name := "name", desc := "(I)I" } : Jvm.MethodName) ({ cls := "KnowHouse$ProofChecker", name := "name", desc := "(I)I" } : Jvm.MethodName)) ∈ lw_all := lw_g (lw_at lw_m19 5 rfl) rfl
theorem q4804 : (Jvm.Cond.code ({ cls := "KnowHouse$ProofChecker", name := "name", desc := "(I)I" } : Jvm.MethodName) prog_25_method_19_code (2 : Nat) (Option.some Jvm.ClassFile.FieldType.int)) ∈ lw_all := lw_g (lw_at lw_m19 6 rfl) rfl
theorem q4805 : (Jvm.Cond.methodLink "KnowHouse" (706 : Nat) ({ cls := "KnowHouse$ProofChecker", name := "states", desc := "(II)I" } : Jvm.MethodName)) ∈ lw_all := lw_g (lw_at lw_m19 7 rfl) rfl
theorem q4806 : (Jvm.Cond.instanceMethod ({ cls := "KnowHouse$ProofChecker", name := "states", desc := "(II)I" } : Jvm.MethodName)) ∈ lw_all := lw_g (lw_at lw_m19 8 rfl) rfl
theorem q4807 : (Jvm.Cond.selects "KnowHouse$ProofChecker" ({ cls := "KnowHouse$ProofChecker", name := "states", desc := "(II)I" } : Jvm.MethodName) ({ cls := "KnowHouse$ProofChecker", name := "states", desc := "(II)I" } : Jvm.MethodName)) ∈ lw_all := lw_g (lw_at lw_m19 9 rfl) rfl
theorem q4808 : (Jvm.Cond.code ({ cls := "KnowHouse$ProofChecker", name := "states", desc := "(II)I" } : Jvm.MethodName) prog_25_method_20_code (4 : Nat) (Option.some Jvm.ClassFile.FieldType.int)) ∈ lw_all := lw_g (lw_at lw_m19 10 rfl) rfl
theorem q4809 : (Jvm.Cond.methodLink "KnowHouse" (708 : Nat) ({ cls := "KnowHouse$ProofChecker", name := "sentence", desc := "(I)I" } : Jvm.MethodName)) ∈ lw_all := lw_g (lw_at lw_m19 11 rfl) rfl
theorem q4810 : (Jvm.Cond.instanceMethod ({ cls := "KnowHouse$ProofChecker", name := "sentence", desc := "(I)I" } : Jvm.MethodName)) ∈ lw_all := lw_g (lw_at lw_m19 12 rfl) rfl
theorem q4811 : (Jvm.Cond.selects "KnowHouse$ProofChecker" ({ cls := "KnowHouse$ProofChecker", name := "sentence", desc := "(I)I" } : Jvm.MethodName) ({ cls := "KnowHouse$ProofChecker", name := "sentence", desc := "(I)I" } : Jvm.MethodName)) ∈ lw_all := lw_g (lw_at lw_m19 13 rfl) rfl
theorem q4812 : (Jvm.Cond.code ({ cls := "KnowHouse$ProofChecker", name := "sentence", desc := "(I)I" } : Jvm.MethodName) prog_25_method_27_code (4 : Nat) (Option.some Jvm.ClassFile.FieldType.int)) ∈ lw_all := lw_g (lw_at lw_m19 14 rfl) rfl
theorem q4889 : (Jvm.Cond.methodLink "KnowHouse" (710 : Nat) ({ cls := "KnowHouse$ProofChecker", name := "at", desc := "(I)I" } : Jvm.MethodName)) ∈ lw_all := lw_g (lw_at lw_m19 91 rfl) rfl
theorem q4890 : (Jvm.Cond.instanceMethod ({ cls := "KnowHouse$ProofChecker", name := "at", desc := "(I)I" } : Jvm.MethodName)) ∈ lw_all := lw_g (lw_at lw_m19 92 rfl) rfl
theorem q4891 : (Jvm.Cond.selects "KnowHouse$ProofChecker" ({ cls := "KnowHouse$ProofChecker", name := "at", desc := "(I)I" } : Jvm.MethodName) ({ cls := "KnowHouse$ProofChecker", name := "at", desc := "(I)I" } : Jvm.MethodName)) ∈ lw_all := lw_g (lw_at lw_m19 93 rfl) rfl
theorem q4892 : (Jvm.Cond.code ({ cls := "KnowHouse$ProofChecker", name := "at", desc := "(I)I" } : Jvm.MethodName) prog_25_method_28_code (2 : Nat) (Option.some Jvm.ClassFile.FieldType.int)) ∈ lw_all := lw_g (lw_at lw_m19 94 rfl) rfl
theorem q4893 : (Jvm.Cond.methodLink "KnowHouse" (712 : Nat) ({ cls := "KnowHouse$ProofChecker", name := "concludes", desc := "(II)Z" } : Jvm.MethodName)) ∈ lw_all := lw_g (lw_at lw_m19 95 rfl) rfl
theorem q4894 : (Jvm.Cond.instanceMethod ({ cls := "KnowHouse$ProofChecker", name := "concludes", desc := "(II)Z" } : Jvm.MethodName)) ∈ lw_all := lw_g (lw_at lw_m19 96 rfl) rfl
theorem q4895 : (Jvm.Cond.selects "KnowHouse$ProofChecker" ({ cls := "KnowHouse$ProofChecker", name := "concludes", desc := "(II)Z" } : Jvm.MethodName) ({ cls := "KnowHouse$ProofChecker", name := "concludes", desc := "(II)Z" } : Jvm.MethodName)) ∈ lw_all := lw_g (lw_at lw_m19 97 rfl) rfl
theorem q4896 : (Jvm.Cond.code ({ cls := "KnowHouse$ProofChecker", name := "concludes", desc := "(II)Z" } : Jvm.MethodName) prog_25_method_21_code (3 : Nat) (Option.some Jvm.ClassFile.FieldType.boolean)) ∈ lw_all := lw_g (lw_at lw_m19 98 rfl) rfl
theorem q4897 : (Jvm.Cond.methodLink "KnowHouse" (564 : Nat) ({ cls := "KnowHouse", name := "rightsCall", desc := "(I)J" } : Jvm.MethodName)) ∈ lw_all := lw_g (lw_at lw_m19 99 rfl) rfl
theorem q4899 : (Jvm.Cond.instanceMethod ({ cls := "KnowHouse", name := "rightsCall", desc := "(I)J" } : Jvm.MethodName)) ∈ lw_all := lw_g (lw_at lw_m19 101 rfl) rfl
theorem q4900 : (Jvm.Cond.code ({ cls := "KnowHouse", name := "rightsCall", desc := "(I)J" } : Jvm.MethodName) prog_1_method_31_code (2 : Nat) (Option.some Jvm.ClassFile.FieldType.long)) ∈ lw_all := lw_g (lw_at lw_m19 102 rfl) rfl
theorem q4901 : (Jvm.Cond.methodLink "KnowHouse" (714 : Nat) ({ cls := "KnowHouse$RightDesk", name := "member", desc := "(IIZ)I" } : Jvm.MethodName)) ∈ lw_all := lw_g (lw_at lw_m19 103 rfl) rfl
theorem q4902 : (Jvm.Cond.instanceMethod ({ cls := "KnowHouse$RightDesk", name := "member", desc := "(IIZ)I" } : Jvm.MethodName)) ∈ lw_all := lw_g (lw_at lw_m19 104 rfl) rfl
theorem q4903 : (Jvm.Cond.selects "KnowHouse$RightDesk" ({ cls := "KnowHouse$RightDesk", name := "member", desc := "(IIZ)I" } : Jvm.MethodName) ({ cls := "KnowHouse$RightDesk", name := "member", desc := "(IIZ)I" } : Jvm.MethodName)) ∈ lw_all := lw_g (lw_at lw_m19 105 rfl) rfl
theorem q4904 : (Jvm.Cond.code ({ cls := "KnowHouse$RightDesk", name := "member", desc := "(IIZ)I" } : Jvm.MethodName) prog_49_method_4_code (4 : Nat) (Option.some Jvm.ClassFile.FieldType.int)) ∈ lw_all := lw_g (lw_at lw_m19 106 rfl) rfl
theorem q4906 : (Jvm.Cond.methodLink "KnowHouse" (716 : Nat) ({ cls := "KnowHouse$RightDesk", name := "condition", desc := "(IIII)I" } : Jvm.MethodName)) ∈ lw_all := lw_g (lw_at lw_m19 108 rfl) rfl
theorem q4907 : (Jvm.Cond.instanceMethod ({ cls := "KnowHouse$RightDesk", name := "condition", desc := "(IIII)I" } : Jvm.MethodName)) ∈ lw_all := lw_g (lw_at lw_m19 109 rfl) rfl
theorem q4908 : (Jvm.Cond.selects "KnowHouse$RightDesk" ({ cls := "KnowHouse$RightDesk", name := "condition", desc := "(IIII)I" } : Jvm.MethodName) ({ cls := "KnowHouse$RightDesk", name := "condition", desc := "(IIII)I" } : Jvm.MethodName)) ∈ lw_all := lw_g (lw_at lw_m19 110 rfl) rfl
theorem q4909 : (Jvm.Cond.code ({ cls := "KnowHouse$RightDesk", name := "condition", desc := "(IIII)I" } : Jvm.MethodName) prog_49_method_7_code (6 : Nat) (Option.some Jvm.ClassFile.FieldType.int)) ∈ lw_all := lw_g (lw_at lw_m19 111 rfl) rfl
theorem q4980 : (Jvm.Cond.methodLink "KnowHouse" (719 : Nat) ({ cls := "KnowHouse$RightDesk", name := "rule", desc := "(IZI)I" } : Jvm.MethodName)) ∈ lw_all := lw_g (lw_at lw_m19 182 rfl) rfl
theorem q4981 : (Jvm.Cond.instanceMethod ({ cls := "KnowHouse$RightDesk", name := "rule", desc := "(IZI)I" } : Jvm.MethodName)) ∈ lw_all := lw_g (lw_at lw_m19 183 rfl) rfl
theorem q4982 : (Jvm.Cond.selects "KnowHouse$RightDesk" ({ cls := "KnowHouse$RightDesk", name := "rule", desc := "(IZI)I" } : Jvm.MethodName) ({ cls := "KnowHouse$RightDesk", name := "rule", desc := "(IZI)I" } : Jvm.MethodName)) ∈ lw_all := lw_g (lw_at lw_m19 184 rfl) rfl
theorem q4983 : (Jvm.Cond.code ({ cls := "KnowHouse$RightDesk", name := "rule", desc := "(IZI)I" } : Jvm.MethodName) prog_49_method_9_code (4 : Nat) (Option.some Jvm.ClassFile.FieldType.int)) ∈ lw_all := lw_g (lw_at lw_m19 185 rfl) rfl
theorem q5002 : (Jvm.Cond.methodLink "KnowHouse" (722 : Nat) ({ cls := "KnowHouse$RightDesk", name := "drop", desc := "(I)I" } : Jvm.MethodName)) ∈ lw_all := lw_g (lw_at lw_m19 204 rfl) rfl
theorem q5003 : (Jvm.Cond.instanceMethod ({ cls := "KnowHouse$RightDesk", name := "drop", desc := "(I)I" } : Jvm.MethodName)) ∈ lw_all := lw_g (lw_at lw_m19 205 rfl) rfl
theorem q5004 : (Jvm.Cond.selects "KnowHouse$RightDesk" ({ cls := "KnowHouse$RightDesk", name := "drop", desc := "(I)I" } : Jvm.MethodName) ({ cls := "KnowHouse$RightDesk", name := "drop", desc := "(I)I" } : Jvm.MethodName)) ∈ lw_all := lw_g (lw_at lw_m19 206 rfl) rfl
theorem q5005 : (Jvm.Cond.code ({ cls := "KnowHouse$RightDesk", name := "drop", desc := "(I)I" } : Jvm.MethodName) prog_49_method_10_code (2 : Nat) (Option.some Jvm.ClassFile.FieldType.int)) ∈ lw_all := lw_g (lw_at lw_m19 207 rfl) rfl
theorem q5015 : (Jvm.Cond.methodLink "KnowHouse" (726 : Nat) ({ cls := "KnowHouse$RightDesk", name := "asks", desc := "(I)I" } : Jvm.MethodName)) ∈ lw_all := lw_g (lw_at lw_m19 217 rfl) rfl
theorem q5016 : (Jvm.Cond.instanceMethod ({ cls := "KnowHouse$RightDesk", name := "asks", desc := "(I)I" } : Jvm.MethodName)) ∈ lw_all := lw_g (lw_at lw_m19 218 rfl) rfl
theorem q5017 : (Jvm.Cond.selects "KnowHouse$RightDesk" ({ cls := "KnowHouse$RightDesk", name := "asks", desc := "(I)I" } : Jvm.MethodName) ({ cls := "KnowHouse$RightDesk", name := "asks", desc := "(I)I" } : Jvm.MethodName)) ∈ lw_all := lw_g (lw_at lw_m19 219 rfl) rfl
theorem q5018 : (Jvm.Cond.code ({ cls := "KnowHouse$RightDesk", name := "asks", desc := "(I)I" } : Jvm.MethodName) prog_49_method_17_code (2 : Nat) (Option.some Jvm.ClassFile.FieldType.int)) ∈ lw_all := lw_g (lw_at lw_m19 220 rfl) rfl
theorem q5034 : (Jvm.Cond.methodLink "KnowHouse" (728 : Nat) ({ cls := "KnowHouse$RightDesk", name := "ask", desc := "(II)I" } : Jvm.MethodName)) ∈ lw_all := lw_g (lw_at lw_m19 236 rfl) rfl
theorem q5035 : (Jvm.Cond.instanceMethod ({ cls := "KnowHouse$RightDesk", name := "ask", desc := "(II)I" } : Jvm.MethodName)) ∈ lw_all := lw_g (lw_at lw_m19 237 rfl) rfl
theorem q5036 : (Jvm.Cond.selects "KnowHouse$RightDesk" ({ cls := "KnowHouse$RightDesk", name := "ask", desc := "(II)I" } : Jvm.MethodName) ({ cls := "KnowHouse$RightDesk", name := "ask", desc := "(II)I" } : Jvm.MethodName)) ∈ lw_all := lw_g (lw_at lw_m19 238 rfl) rfl
theorem q5037 : (Jvm.Cond.code ({ cls := "KnowHouse$RightDesk", name := "ask", desc := "(II)I" } : Jvm.MethodName) prog_49_method_18_code (5 : Nat) (Option.some Jvm.ClassFile.FieldType.int)) ∈ lw_all := lw_g (lw_at lw_m19 239 rfl) rfl
theorem q5039 : (Jvm.Cond.methodLink "KnowHouse" (730 : Nat) ({ cls := "KnowHouse$RightDesk", name := "within", desc := "(II)I" } : Jvm.MethodName)) ∈ lw_all := lw_g (lw_at lw_m20 1 rfl) rfl
theorem q5040 : (Jvm.Cond.instanceMethod ({ cls := "KnowHouse$RightDesk", name := "within", desc := "(II)I" } : Jvm.MethodName)) ∈ lw_all := lw_g (lw_at lw_m20 2 rfl) rfl
theorem q5041 : (Jvm.Cond.selects "KnowHouse$RightDesk" ({ cls := "KnowHouse$RightDesk", name := "within", desc := "(II)I" } : Jvm.MethodName) ({ cls := "KnowHouse$RightDesk", name := "within", desc := "(II)I" } : Jvm.MethodName)) ∈ lw_all := lw_g (lw_at lw_m20 3 rfl) rfl
theorem q5042 : (Jvm.Cond.code ({ cls := "KnowHouse$RightDesk", name := "within", desc := "(II)I" } : Jvm.MethodName) prog_49_method_20_code (3 : Nat) (Option.some Jvm.ClassFile.FieldType.int)) ∈ lw_all := lw_g (lw_at lw_m20 4 rfl) rfl
theorem q5053 : (Jvm.Cond.methodLink "KnowHouse" (732 : Nat) ({ cls := "KnowHouse$RightDesk", name := "decides", desc := "(I)I" } : Jvm.MethodName)) ∈ lw_all := lw_g (lw_at lw_m20 15 rfl) rfl
theorem q5054 : (Jvm.Cond.instanceMethod ({ cls := "KnowHouse$RightDesk", name := "decides", desc := "(I)I" } : Jvm.MethodName)) ∈ lw_all := lw_g (lw_at lw_m20 16 rfl) rfl
theorem q5055 : (Jvm.Cond.selects "KnowHouse$RightDesk" ({ cls := "KnowHouse$RightDesk", name := "decides", desc := "(I)I" } : Jvm.MethodName) ({ cls := "KnowHouse$RightDesk", name := "decides", desc := "(I)I" } : Jvm.MethodName)) ∈ lw_all := lw_g (lw_at lw_m20 17 rfl) rfl
theorem q5056 : (Jvm.Cond.code ({ cls := "KnowHouse$RightDesk", name := "decides", desc := "(I)I" } : Jvm.MethodName) prog_49_method_23_code (2 : Nat) (Option.some Jvm.ClassFile.FieldType.int)) ∈ lw_all := lw_g (lw_at lw_m20 18 rfl) rfl
theorem q5065 : (Jvm.Cond.methodLink "KnowHouse" (734 : Nat) ({ cls := "KnowHouse$RightDesk", name := "sees", desc := "(II)I" } : Jvm.MethodName)) ∈ lw_all := lw_g (lw_at lw_m20 27 rfl) rfl
theorem q5066 : (Jvm.Cond.instanceMethod ({ cls := "KnowHouse$RightDesk", name := "sees", desc := "(II)I" } : Jvm.MethodName)) ∈ lw_all := lw_g (lw_at lw_m20 28 rfl) rfl
theorem q5067 : (Jvm.Cond.selects "KnowHouse$RightDesk" ({ cls := "KnowHouse$RightDesk", name := "sees", desc := "(II)I" } : Jvm.MethodName) ({ cls := "KnowHouse$RightDesk", name := "sees", desc := "(II)I" } : Jvm.MethodName)) ∈ lw_all := lw_g (lw_at lw_m20 29 rfl) rfl
theorem q5068 : (Jvm.Cond.code ({ cls := "KnowHouse$RightDesk", name := "sees", desc := "(II)I" } : Jvm.MethodName) prog_49_method_24_code (5 : Nat) (Option.some Jvm.ClassFile.FieldType.int)) ∈ lw_all := lw_g (lw_at lw_m20 30 rfl) rfl
theorem q5070 : (Jvm.Cond.methodLink "KnowHouse" (736 : Nat) ({ cls := "KnowHouse$RightDesk", name := "matters", desc := "(I)I" } : Jvm.MethodName)) ∈ lw_all := lw_g (lw_at lw_m20 32 rfl) rfl
theorem q5071 : (Jvm.Cond.instanceMethod ({ cls := "KnowHouse$RightDesk", name := "matters", desc := "(I)I" } : Jvm.MethodName)) ∈ lw_all := lw_g (lw_at lw_m20 33 rfl) rfl
theorem q5072 : (Jvm.Cond.selects "KnowHouse$RightDesk" ({ cls := "KnowHouse$RightDesk", name := "matters", desc := "(I)I" } : Jvm.MethodName) ({ cls := "KnowHouse$RightDesk", name := "matters", desc := "(I)I" } : Jvm.MethodName)) ∈ lw_all := lw_g (lw_at lw_m20 34 rfl) rfl
theorem q5073 : (Jvm.Cond.code ({ cls := "KnowHouse$RightDesk", name := "matters", desc := "(I)I" } : Jvm.MethodName) prog_49_method_25_code (2 : Nat) (Option.some Jvm.ClassFile.FieldType.int)) ∈ lw_all := lw_g (lw_at lw_m20 35 rfl) rfl
theorem q5078 : (Jvm.Cond.methodLink "KnowHouse" (738 : Nat) ({ cls := "KnowHouse$RightDesk", name := "idle", desc := "(ZI)I" } : Jvm.MethodName)) ∈ lw_all := lw_g (lw_at lw_m20 40 rfl) rfl
theorem q5079 : (Jvm.Cond.instanceMethod ({ cls := "KnowHouse$RightDesk", name := "idle", desc := "(ZI)I" } : Jvm.MethodName)) ∈ lw_all := lw_g (lw_at lw_m20 41 rfl) rfl
theorem q5080 : (Jvm.Cond.selects "KnowHouse$RightDesk" ({ cls := "KnowHouse$RightDesk", name := "idle", desc := "(ZI)I" } : Jvm.MethodName) ({ cls := "KnowHouse$RightDesk", name := "idle", desc := "(ZI)I" } : Jvm.MethodName)) ∈ lw_all := lw_g (lw_at lw_m20 42 rfl) rfl
theorem q5081 : (Jvm.Cond.code ({ cls := "KnowHouse$RightDesk", name := "idle", desc := "(ZI)I" } : Jvm.MethodName) prog_49_method_26_code (6 : Nat) (Option.some Jvm.ClassFile.FieldType.int)) ∈ lw_all := lw_g (lw_at lw_m20 43 rfl) rfl
theorem q5082 : (Jvm.Cond.methodLink "KnowHouse" (741 : Nat) ({ cls := "KnowHouse$RightDesk", name := "apart", desc := "(II)I" } : Jvm.MethodName)) ∈ lw_all := lw_g (lw_at lw_m20 44 rfl) rfl
theorem q5083 : (Jvm.Cond.instanceMethod ({ cls := "KnowHouse$RightDesk", name := "apart", desc := "(II)I" } : Jvm.MethodName)) ∈ lw_all := lw_g (lw_at lw_m20 45 rfl) rfl
theorem q5084 : (Jvm.Cond.selects "KnowHouse$RightDesk" ({ cls := "KnowHouse$RightDesk", name := "apart", desc := "(II)I" } : Jvm.MethodName) ({ cls := "KnowHouse$RightDesk", name := "apart", desc := "(II)I" } : Jvm.MethodName)) ∈ lw_all := lw_g (lw_at lw_m20 46 rfl) rfl
theorem q5085 : (Jvm.Cond.code ({ cls := "KnowHouse$RightDesk", name := "apart", desc := "(II)I" } : Jvm.MethodName) prog_49_method_27_code (4 : Nat) (Option.some Jvm.ClassFile.FieldType.int)) ∈ lw_all := lw_g (lw_at lw_m20 47 rfl) rfl
theorem q5086 : (Jvm.Cond.methodLink "KnowHouse" (743 : Nat) ({ cls := "KnowHouse$RightDesk", name := "allowed", desc := "()I" } : Jvm.MethodName)) ∈ lw_all := lw_g (lw_at lw_m20 48 rfl) rfl
theorem q5087 : (Jvm.Cond.instanceMethod ({ cls := "KnowHouse$RightDesk", name := "allowed", desc := "()I" } : Jvm.MethodName)) ∈ lw_all := lw_g (lw_at lw_m20 49 rfl) rfl
theorem q5088 : (Jvm.Cond.selects "KnowHouse$RightDesk" ({ cls := "KnowHouse$RightDesk", name := "allowed", desc := "()I" } : Jvm.MethodName) ({ cls := "KnowHouse$RightDesk", name := "allowed", desc := "()I" } : Jvm.MethodName)) ∈ lw_all := lw_g (lw_at lw_m20 50 rfl) rfl
theorem q5089 : (Jvm.Cond.code ({ cls := "KnowHouse$RightDesk", name := "allowed", desc := "()I" } : Jvm.MethodName) prog_49_method_28_code (1 : Nat) (Option.some Jvm.ClassFile.FieldType.int)) ∈ lw_all := lw_g (lw_at lw_m20 51 rfl) rfl
theorem q5090 : (Jvm.Cond.methodLink "KnowHouse" (745 : Nat) ({ cls := "KnowHouse$RightDesk", name := "conditions", desc := "()I" } : Jvm.MethodName)) ∈ lw_all := lw_g (lw_at lw_m20 52 rfl) rfl
theorem q5091 : (Jvm.Cond.instanceMethod ({ cls := "KnowHouse$RightDesk", name := "conditions", desc := "()I" } : Jvm.MethodName)) ∈ lw_all := lw_g (lw_at lw_m20 53 rfl) rfl
theorem q5092 : (Jvm.Cond.selects "KnowHouse$RightDesk" ({ cls := "KnowHouse$RightDesk", name := "conditions", desc := "()I" } : Jvm.MethodName) ({ cls := "KnowHouse$RightDesk", name := "conditions", desc := "()I" } : Jvm.MethodName)) ∈ lw_all := lw_g (lw_at lw_m20 54 rfl) rfl
theorem q5093 : (Jvm.Cond.code ({ cls := "KnowHouse$RightDesk", name := "conditions", desc := "()I" } : Jvm.MethodName) prog_49_method_8_code (1 : Nat) (Option.some Jvm.ClassFile.FieldType.int)) ∈ lw_all := lw_g (lw_at lw_m20 55 rfl) rfl
theorem q5094 : (Jvm.Cond.methodLink "KnowHouse" (747 : Nat) ({ cls := "KnowHouse$RightDesk", name := "rules", desc := "()I" } : Jvm.MethodName)) ∈ lw_all := lw_g (lw_at lw_m20 56 rfl) rfl
theorem q5095 : (Jvm.Cond.instanceMethod ({ cls := "KnowHouse$RightDesk", name := "rules", desc := "()I" } : Jvm.MethodName)) ∈ lw_all := lw_g (lw_at lw_m20 57 rfl) rfl
theorem q5096 : (Jvm.Cond.selects "KnowHouse$RightDesk" ({ cls := "KnowHouse$RightDesk", name := "rules", desc := "()I" } : Jvm.MethodName) ({ cls := "KnowHouse$RightDesk", name := "rules", desc := "()I" } : Jvm.MethodName)) ∈ lw_all := lw_g (lw_at lw_m20 58 rfl) rfl
theorem q5097 : (Jvm.Cond.code ({ cls := "KnowHouse$RightDesk", name := "rules", desc := "()I" } : Jvm.MethodName) prog_49_method_11_code (1 : Nat) (Option.some Jvm.ClassFile.FieldType.int)) ∈ lw_all := lw_g (lw_at lw_m20 59 rfl) rfl
theorem q5098 : (Jvm.Cond.methodLink "KnowHouse" (567 : Nat) ({ cls := "KnowHouse", name := "classesCall", desc := "(I)J" } : Jvm.MethodName)) ∈ lw_all := lw_g (lw_at lw_m20 60 rfl) rfl
theorem q5100 : (Jvm.Cond.instanceMethod ({ cls := "KnowHouse", name := "classesCall", desc := "(I)J" } : Jvm.MethodName)) ∈ lw_all := lw_g (lw_at lw_m20 62 rfl) rfl
theorem q5101 : (Jvm.Cond.code ({ cls := "KnowHouse", name := "classesCall", desc := "(I)J" } : Jvm.MethodName) prog_1_method_32_code (2 : Nat) (Option.some Jvm.ClassFile.FieldType.long)) ∈ lw_all := lw_g (lw_at lw_m20 63 rfl) rfl
theorem q5102 : (Jvm.Cond.methodLink "KnowHouse" (749 : Nat) ({ cls := "KnowHouse$ClassifySort", name := "class0", desc := "()I" } : Jvm.MethodName)) ∈ lw_all := lw_g (lw_at lw_m20 64 rfl) rfl
theorem q5103 : (Jvm.Cond.instanceMethod ({ cls := "KnowHouse$ClassifySort", name := "class0", desc := "()I" } : Jvm.MethodName)) ∈ lw_all := lw_g (lw_at lw_m20 65 rfl) rfl
theorem q5104 : (Jvm.Cond.selects "KnowHouse$ClassifySort" ({ cls := "KnowHouse$ClassifySort", name := "class0", desc := "()I" } : Jvm.MethodName) ({ cls := "KnowHouse$ClassifySort", name := "class0", desc := "()I" } : Jvm.MethodName)) ∈ lw_all := lw_g (lw_at lw_m20 66 rfl) rfl
theorem q5105 : (Jvm.Cond.code ({ cls := "KnowHouse$ClassifySort", name := "class0", desc := "()I" } : Jvm.MethodName) prog_7_method_8_code (1 : Nat) (Option.some Jvm.ClassFile.FieldType.int)) ∈ lw_all := lw_g (lw_at lw_m20 67 rfl) rfl
theorem q5106 : (Jvm.Cond.methodLink "KnowHouse" (751 : Nat) ({ cls := "KnowHouse$ClassifySort", name := "thing", desc := "()I" } : Jvm.MethodName)) ∈ lw_all := lw_g (lw_at lw_m20 68 rfl) rfl
theorem q5107 : (Jvm.Cond.instanceMethod ({ cls := "KnowHouse$ClassifySort", name := "thing", desc := "()I" } : Jvm.MethodName)) ∈ lw_all := lw_g (lw_at lw_m20 69 rfl) rfl
theorem q5108 : (Jvm.Cond.selects "KnowHouse$ClassifySort" ({ cls := "KnowHouse$ClassifySort", name := "thing", desc := "()I" } : Jvm.MethodName) ({ cls := "KnowHouse$ClassifySort", name := "thing", desc := "()I" } : Jvm.MethodName)) ∈ lw_all := lw_g (lw_at lw_m20 70 rfl) rfl
theorem q5109 : (Jvm.Cond.code ({ cls := "KnowHouse$ClassifySort", name := "thing", desc := "()I" } : Jvm.MethodName) prog_7_method_9_code (1 : Nat) (Option.some Jvm.ClassFile.FieldType.int)) ∈ lw_all := lw_g (lw_at lw_m20 71 rfl) rfl
theorem q5110 : (Jvm.Cond.methodLink "KnowHouse" (754 : Nat) ({ cls := "KnowHouse$ClassifySort", name := "remove", desc := "(I)I" } : Jvm.MethodName)) ∈ lw_all := lw_g (lw_at lw_m20 72 rfl) rfl
theorem q5111 : (Jvm.Cond.instanceMethod ({ cls := "KnowHouse$ClassifySort", name := "remove", desc := "(I)I" } : Jvm.MethodName)) ∈ lw_all := lw_g (lw_at lw_m20 73 rfl) rfl
theorem q5112 : (Jvm.Cond.selects "KnowHouse$ClassifySort" ({ cls := "KnowHouse$ClassifySort", name := "remove", desc := "(I)I" } : Jvm.MethodName) ({ cls := "KnowHouse$ClassifySort", name := "remove", desc := "(I)I" } : Jvm.MethodName)) ∈ lw_all := lw_g (lw_at lw_m20 74 rfl) rfl
theorem q5113 : (Jvm.Cond.code ({ cls := "KnowHouse$ClassifySort", name := "remove", desc := "(I)I" } : Jvm.MethodName) prog_7_method_11_code (6 : Nat) (Option.some Jvm.ClassFile.FieldType.int)) ∈ lw_all := lw_g (lw_at lw_m20 75 rfl) rfl
theorem q5118 : (Jvm.Cond.methodLink "KnowHouse" (756 : Nat) ({ cls := "KnowHouse$ClassifySort", name := "fuel", desc := "(I)I" } : Jvm.MethodName)) ∈ lw_all := lw_g (lw_at lw_m20 80 rfl) rfl
theorem q5119 : (Jvm.Cond.instanceMethod ({ cls := "KnowHouse$ClassifySort", name := "fuel", desc := "(I)I" } : Jvm.MethodName)) ∈ lw_all := lw_g (lw_at lw_m20 81 rfl) rfl
theorem q5120 : (Jvm.Cond.selects "KnowHouse$ClassifySort" ({ cls := "KnowHouse$ClassifySort", name := "fuel", desc := "(I)I" } : Jvm.MethodName) ({ cls := "KnowHouse$ClassifySort", name := "fuel", desc := "(I)I" } : Jvm.MethodName)) ∈ lw_all := lw_g (lw_at lw_m20 82 rfl) rfl
theorem q5121 : (Jvm.Cond.code ({ cls := "KnowHouse$ClassifySort", name := "fuel", desc := "(I)I" } : Jvm.MethodName) prog_7_method_12_code (4 : Nat) (Option.some Jvm.ClassFile.FieldType.int)) ∈ lw_all := lw_g (lw_at lw_m20 83 rfl) rfl
theorem q5122 : (Jvm.Cond.methodLink "KnowHouse" (758 : Nat) ({ cls := "KnowHouse$ClassifySort", name := "known", desc := "(II)I" } : Jvm.MethodName)) ∈ lw_all := lw_g (lw_at lw_m20 84 rfl) rfl
theorem q5123 : (Jvm.Cond.instanceMethod ({ cls := "KnowHouse$ClassifySort", name := "known", desc := "(II)I" } : Jvm.MethodName)) ∈ lw_all := lw_g (lw_at lw_m20 85 rfl) rfl
theorem q5124 : (Jvm.Cond.selects "KnowHouse$ClassifySort" ({ cls := "KnowHouse$ClassifySort", name := "known", desc := "(II)I" } : Jvm.MethodName) ({ cls := "KnowHouse$ClassifySort", name := "known", desc := "(II)I" } : Jvm.MethodName)) ∈ lw_all := lw_g (lw_at lw_m20 86 rfl) rfl
theorem q5125 : (Jvm.Cond.code ({ cls := "KnowHouse$ClassifySort", name := "known", desc := "(II)I" } : Jvm.MethodName) prog_7_method_20_code (3 : Nat) (Option.some Jvm.ClassFile.FieldType.int)) ∈ lw_all := lw_g (lw_at lw_m20 87 rfl) rfl
theorem q5126 : (Jvm.Cond.methodLink "KnowHouse" (760 : Nat) ({ cls := "KnowHouse$ClassifySort", name := "ask", desc := "(II)I" } : Jvm.MethodName)) ∈ lw_all := lw_g (lw_at lw_m20 88 rfl) rfl
theorem q5127 : (Jvm.Cond.instanceMethod ({ cls := "KnowHouse$ClassifySort", name := "ask", desc := "(II)I" } : Jvm.MethodName)) ∈ lw_all := lw_g (lw_at lw_m20 89 rfl) rfl
theorem q5128 : (Jvm.Cond.selects "KnowHouse$ClassifySort" ({ cls := "KnowHouse$ClassifySort", name := "ask", desc := "(II)I" } : Jvm.MethodName) ({ cls := "KnowHouse$ClassifySort", name := "ask", desc := "(II)I" } : Jvm.MethodName)) ∈ lw_all := lw_g (lw_at lw_m20 90 rfl) rfl
theorem q5129 : (Jvm.Cond.code ({ cls := "KnowHouse$ClassifySort", name := "ask", desc := "(II)I" } : Jvm.MethodName) prog_7_method_21_code (3 : Nat) (Option.some Jvm.ClassFile.FieldType.int)) ∈ lw_all := lw_g (lw_at lw_m20 91 rfl) rfl
theorem q5130 : (Jvm.Cond.methodLink "KnowHouse" (765 : Nat) ({ cls := "KnowHouse$ClassifySort", name := "child", desc := "(II)I" } : Jvm.MethodName)) ∈ lw_all := lw_g (lw_at lw_m20 92 rfl) rfl
theorem q5131 : (Jvm.Cond.instanceMethod ({ cls := "KnowHouse$ClassifySort", name := "child", desc := "(II)I" } : Jvm.MethodName)) ∈ lw_all := lw_g (lw_at lw_m20 93 rfl) rfl
theorem q5132 : (Jvm.Cond.selects "KnowHouse$ClassifySort" ({ cls := "KnowHouse$ClassifySort", name := "child", desc := "(II)I" } : Jvm.MethodName) ({ cls := "KnowHouse$ClassifySort", name := "child", desc := "(II)I" } : Jvm.MethodName)) ∈ lw_all := lw_g (lw_at lw_m20 94 rfl) rfl
theorem q5133 : (Jvm.Cond.code ({ cls := "KnowHouse$ClassifySort", name := "child", desc := "(II)I" } : Jvm.MethodName) prog_7_method_34_code (4 : Nat) (Option.some Jvm.ClassFile.FieldType.int)) ∈ lw_all := lw_g (lw_at lw_m20 95 rfl) rfl
theorem q5134 : (Jvm.Cond.methodLink "KnowHouse" (767 : Nat) ({ cls := "KnowHouse$ClassifySort", name := "equal", desc := "(II)I" } : Jvm.MethodName)) ∈ lw_all := lw_g (lw_at lw_m20 96 rfl) rfl
theorem q5135 : (Jvm.Cond.instanceMethod ({ cls := "KnowHouse$ClassifySort", name := "equal", desc := "(II)I" } : Jvm.MethodName)) ∈ lw_all := lw_g (lw_at lw_m20 97 rfl) rfl
theorem q5136 : (Jvm.Cond.selects "KnowHouse$ClassifySort" ({ cls := "KnowHouse$ClassifySort", name := "equal", desc := "(II)I" } : Jvm.MethodName) ({ cls := "KnowHouse$ClassifySort", name := "equal", desc := "(II)I" } : Jvm.MethodName)) ∈ lw_all := lw_g (lw_at lw_m20 98 rfl) rfl
theorem q5137 : (Jvm.Cond.code ({ cls := "KnowHouse$ClassifySort", name := "equal", desc := "(II)I" } : Jvm.MethodName) prog_7_method_35_code (4 : Nat) (Option.some Jvm.ClassFile.FieldType.int)) ∈ lw_all := lw_g (lw_at lw_m20 99 rfl) rfl
theorem q5142 : (Jvm.Cond.methodLink "KnowHouse" (769 : Nat) ({ cls := "KnowHouse$ClassifySort", name := "empty", desc := "(I)I" } : Jvm.MethodName)) ∈ lw_all := lw_g (lw_at lw_m20 104 rfl) rfl
theorem q5143 : (Jvm.Cond.instanceMethod ({ cls := "KnowHouse$ClassifySort", name := "empty", desc := "(I)I" } : Jvm.MethodName)) ∈ lw_all := lw_g (lw_at lw_m20 105 rfl) rfl
theorem q5144 : (Jvm.Cond.selects "KnowHouse$ClassifySort" ({ cls := "KnowHouse$ClassifySort", name := "empty", desc := "(I)I" } : Jvm.MethodName) ({ cls := "KnowHouse$ClassifySort", name := "empty", desc := "(I)I" } : Jvm.MethodName)) ∈ lw_all := lw_g (lw_at lw_m20 106 rfl) rfl
theorem q5145 : (Jvm.Cond.code ({ cls := "KnowHouse$ClassifySort", name := "empty", desc := "(I)I" } : Jvm.MethodName) prog_7_method_36_code (2 : Nat) (Option.some Jvm.ClassFile.FieldType.int)) ∈ lw_all := lw_g (lw_at lw_m20 107 rfl) rfl
theorem q5146 : (Jvm.Cond.methodLink "KnowHouse" (771 : Nat) ({ cls := "KnowHouse$ClassifySort", name := "open", desc := "(I)I" } : Jvm.MethodName)) ∈ lw_all := lw_g (lw_at lw_m20 108 rfl) rfl
theorem q5147 : (Jvm.Cond.instanceMethod ({ cls := "KnowHouse$ClassifySort", name := "open", desc := "(I)I" } : Jvm.MethodName)) ∈ lw_all := lw_g (lw_at lw_m20 109 rfl) rfl
theorem q5148 : (Jvm.Cond.selects "KnowHouse$ClassifySort" ({ cls := "KnowHouse$ClassifySort", name := "open", desc := "(I)I" } : Jvm.MethodName) ({ cls := "KnowHouse$ClassifySort", name := "open", desc := "(I)I" } : Jvm.MethodName)) ∈ lw_all := lw_g (lw_at lw_m20 110 rfl) rfl
theorem q5149 : (Jvm.Cond.code ({ cls := "KnowHouse$ClassifySort", name := "open", desc := "(I)I" } : Jvm.MethodName) prog_7_method_37_code (6 : Nat) (Option.some Jvm.ClassFile.FieldType.int)) ∈ lw_all := lw_g (lw_at lw_m20 111 rfl) rfl
theorem q5150 : (Jvm.Cond.methodLink "KnowHouse" (775 : Nat) ({ cls := "KnowHouse$ClassifySort", name := "type", desc := "(II)I" } : Jvm.MethodName)) ∈ lw_all := lw_g (lw_at lw_m20 112 rfl) rfl
theorem q5151 : (Jvm.Cond.instanceMethod ({ cls := "KnowHouse$ClassifySort", name := "type", desc := "(II)I" } : Jvm.MethodName)) ∈ lw_all := lw_g (lw_at lw_m20 113 rfl) rfl
theorem q5152 : (Jvm.Cond.selects "KnowHouse$ClassifySort" ({ cls := "KnowHouse$ClassifySort", name := "type", desc := "(II)I" } : Jvm.MethodName) ({ cls := "KnowHouse$ClassifySort", name := "type", desc := "(II)I" } : Jvm.MethodName)) ∈ lw_all := lw_g (lw_at lw_m20 114 rfl) rfl
theorem q5153 : (Jvm.Cond.code ({ cls := "KnowHouse$ClassifySort", name := "type", desc := "(II)I" } : Jvm.MethodName) prog_7_method_40_code (7 : Nat) (Option.some Jvm.ClassFile.FieldType.int)) ∈ lw_all := lw_g (lw_at lw_m20 115 rfl) rfl
theorem q5154 : (Jvm.Cond.methodLink "KnowHouse" (777 : Nat) ({ cls := "KnowHouse$ClassifySort", name := "trace", desc := "(III)I" } : Jvm.MethodName)) ∈ lw_all := lw_g (lw_at lw_m20 116 rfl) rfl
theorem q5155 : (Jvm.Cond.instanceMethod ({ cls := "KnowHouse$ClassifySort", name := "trace", desc := "(III)I" } : Jvm.MethodName)) ∈ lw_all := lw_g (lw_at lw_m20 117 rfl) rfl
theorem q5156 : (Jvm.Cond.selects "KnowHouse$ClassifySort" ({ cls := "KnowHouse$ClassifySort", name := "trace", desc := "(III)I" } : Jvm.MethodName) ({ cls := "KnowHouse$ClassifySort", name := "trace", desc := "(III)I" } : Jvm.MethodName)) ∈ lw_all := lw_g (lw_at lw_m20 118 rfl) rfl
theorem q5157 : (Jvm.Cond.code ({ cls := "KnowHouse$ClassifySort", name := "trace", desc := "(III)I" } : Jvm.MethodName) prog_7_method_41_code (5 : Nat) (Option.some Jvm.ClassFile.FieldType.int)) ∈ lw_all := lw_g (lw_at lw_m20 119 rfl) rfl
theorem q5162 : (Jvm.Cond.methodLink "KnowHouse" (570 : Nat) ({ cls := "KnowHouse", name := "facetsCall", desc := "(I)J" } : Jvm.MethodName)) ∈ lw_all := lw_g (lw_at lw_m20 124 rfl) rfl
theorem q5164 : (Jvm.Cond.instanceMethod ({ cls := "KnowHouse", name := "facetsCall", desc := "(I)J" } : Jvm.MethodName)) ∈ lw_all := lw_g (lw_at lw_m20 126 rfl) rfl
theorem q5165 : (Jvm.Cond.code ({ cls := "KnowHouse", name := "facetsCall", desc := "(I)J" } : Jvm.MethodName) prog_1_method_33_code (2 : Nat) (Option.some Jvm.ClassFile.FieldType.long)) ∈ lw_all := lw_g (lw_at lw_m20 127 rfl) rfl
theorem q5166 : (Jvm.Cond.methodLink "KnowHouse" (785 : Nat) ({ cls := "KnowHouse$FacetCounts", name := "choose", desc := "(IIZ)I" } : Jvm.MethodName)) ∈ lw_all := lw_g (lw_at lw_m20 128 rfl) rfl
theorem q5167 : (Jvm.Cond.instanceMethod ({ cls := "KnowHouse$FacetCounts", name := "choose", desc := "(IIZ)I" } : Jvm.MethodName)) ∈ lw_all := lw_g (lw_at lw_m20 129 rfl) rfl
theorem q5168 : (Jvm.Cond.selects "KnowHouse$FacetCounts" ({ cls := "KnowHouse$FacetCounts", name := "choose", desc := "(IIZ)I" } : Jvm.MethodName) ({ cls := "KnowHouse$FacetCounts", name := "choose", desc := "(IIZ)I" } : Jvm.MethodName)) ∈ lw_all := lw_g (lw_at lw_m20 130 rfl) rfl
theorem q5169 : (Jvm.Cond.code ({ cls := "KnowHouse$FacetCounts", name := "choose", desc := "(IIZ)I" } : Jvm.MethodName) prog_20_method_12_code (4 : Nat) (Option.some Jvm.ClassFile.FieldType.int)) ∈ lw_all := lw_g (lw_at lw_m20 131 rfl) rfl
theorem q5171 : (Jvm.Cond.methodLink "KnowHouse" (789 : Nat) ({ cls := "KnowHouse$FacetCounts", name := "isKept", desc := "(I)I" } : Jvm.MethodName)) ∈ lw_all := lw_g (lw_at lw_m20 133 rfl) rfl
theorem q5172 : (Jvm.Cond.instanceMethod ({ cls := "KnowHouse$FacetCounts", name := "isKept", desc := "(I)I" } : Jvm.MethodName)) ∈ lw_all := lw_g (lw_at lw_m20 134 rfl) rfl
theorem q5173 : (Jvm.Cond.selects "KnowHouse$FacetCounts" ({ cls := "KnowHouse$FacetCounts", name := "isKept", desc := "(I)I" } : Jvm.MethodName) ({ cls := "KnowHouse$FacetCounts", name := "isKept", desc := "(I)I" } : Jvm.MethodName)) ∈ lw_all := lw_g (lw_at lw_m20 135 rfl) rfl
theorem q5174 : (Jvm.Cond.code ({ cls := "KnowHouse$FacetCounts", name := "isKept", desc := "(I)I" } : Jvm.MethodName) prog_20_method_14_code (2 : Nat) (Option.some Jvm.ClassFile.FieldType.int)) ∈ lw_all := lw_g (lw_at lw_m20 136 rfl) rfl
theorem q5175 : (Jvm.Cond.methodLink "KnowHouse" (791 : Nat) ({ cls := "KnowHouse$FacetCounts", name := "facet", desc := "(II)I" } : Jvm.MethodName)) ∈ lw_all := lw_g (lw_at lw_m20 137 rfl) rfl
theorem q5176 : (Jvm.Cond.instanceMethod ({ cls := "KnowHouse$FacetCounts", name := "facet", desc := "(II)I" } : Jvm.MethodName)) ∈ lw_all := lw_g (lw_at lw_m20 138 rfl) rfl
theorem q5177 : (Jvm.Cond.selects "KnowHouse$FacetCounts" ({ cls := "KnowHouse$FacetCounts", name := "facet", desc := "(II)I" } : Jvm.MethodName) ({ cls := "KnowHouse$FacetCounts", name := "facet", desc := "(II)I" } : Jvm.MethodName)) ∈ lw_all := lw_g (lw_at lw_m20 139 rfl) rfl
theorem q5178 : (Jvm.Cond.code ({ cls := "KnowHouse$FacetCounts", name := "facet", desc := "(II)I" } : Jvm.MethodName) prog_20_method_15_code (3 : Nat) (Option.some Jvm.ClassFile.FieldType.int)) ∈ lw_all := lw_g (lw_at lw_m20 140 rfl) rfl
theorem q5179 : (Jvm.Cond.methodLink "KnowHouse" (793 : Nat) ({ cls := "KnowHouse$FacetCounts", name := "top", desc := "(II)I" } : Jvm.MethodName)) ∈ lw_all := lw_g (lw_at lw_m20 141 rfl) rfl
theorem q5180 : (Jvm.Cond.instanceMethod ({ cls := "KnowHouse$FacetCounts", name := "top", desc := "(II)I" } : Jvm.MethodName)) ∈ lw_all := lw_g (lw_at lw_m20 142 rfl) rfl
theorem q5181 : (Jvm.Cond.selects "KnowHouse$FacetCounts" ({ cls := "KnowHouse$FacetCounts", name := "top", desc := "(II)I" } : Jvm.MethodName) ({ cls := "KnowHouse$FacetCounts", name := "top", desc := "(II)I" } : Jvm.MethodName)) ∈ lw_all := lw_g (lw_at lw_m20 143 rfl) rfl
theorem q5182 : (Jvm.Cond.code ({ cls := "KnowHouse$FacetCounts", name := "top", desc := "(II)I" } : Jvm.MethodName) prog_20_method_16_code (8 : Nat) (Option.some Jvm.ClassFile.FieldType.int)) ∈ lw_all := lw_g (lw_at lw_m20 144 rfl) rfl
theorem q5183 : (Jvm.Cond.methodLink "KnowHouse" (795 : Nat) ({ cls := "KnowHouse$FacetCounts", name := "range", desc := "(III)I" } : Jvm.MethodName)) ∈ lw_all := lw_g (lw_at lw_m20 145 rfl) rfl
theorem q5184 : (Jvm.Cond.instanceMethod ({ cls := "KnowHouse$FacetCounts", name := "range", desc := "(III)I" } : Jvm.MethodName)) ∈ lw_all := lw_g (lw_at lw_m20 146 rfl) rfl
theorem q5185 : (Jvm.Cond.selects "KnowHouse$FacetCounts" ({ cls := "KnowHouse$FacetCounts", name := "range", desc := "(III)I" } : Jvm.MethodName) ({ cls := "KnowHouse$FacetCounts", name := "range", desc := "(III)I" } : Jvm.MethodName)) ∈ lw_all := lw_g (lw_at lw_m20 147 rfl) rfl
theorem q5186 : (Jvm.Cond.code ({ cls := "KnowHouse$FacetCounts", name := "range", desc := "(III)I" } : Jvm.MethodName) prog_20_method_17_code (7 : Nat) (Option.some Jvm.ClassFile.FieldType.int)) ∈ lw_all := lw_g (lw_at lw_m20 148 rfl) rfl
theorem q5187 : (Jvm.Cond.methodLink "KnowHouse" (797 : Nat) ({ cls := "KnowHouse$FacetCounts", name := "sum", desc := "(III)I" } : Jvm.MethodName)) ∈ lw_all := lw_g (lw_at lw_m20 149 rfl) rfl
theorem q5188 : (Jvm.Cond.instanceMethod ({ cls := "KnowHouse$FacetCounts", name := "sum", desc := "(III)I" } : Jvm.MethodName)) ∈ lw_all := lw_g (lw_at lw_m20 150 rfl) rfl
theorem q5189 : (Jvm.Cond.selects "KnowHouse$FacetCounts" ({ cls := "KnowHouse$FacetCounts", name := "sum", desc := "(III)I" } : Jvm.MethodName) ({ cls := "KnowHouse$FacetCounts", name := "sum", desc := "(III)I" } : Jvm.MethodName)) ∈ lw_all := lw_g (lw_at lw_m20 151 rfl) rfl
theorem q5190 : (Jvm.Cond.code ({ cls := "KnowHouse$FacetCounts", name := "sum", desc := "(III)I" } : Jvm.MethodName) prog_20_method_18_code (8 : Nat) (Option.some Jvm.ClassFile.FieldType.int)) ∈ lw_all := lw_g (lw_at lw_m20 152 rfl) rfl
theorem q5191 : (Jvm.Cond.methodLink "KnowHouse" (799 : Nat) ({ cls := "KnowHouse$FacetCounts", name := "changed", desc := "()I" } : Jvm.MethodName)) ∈ lw_all := lw_g (lw_at lw_m20 153 rfl) rfl
theorem q5192 : (Jvm.Cond.instanceMethod ({ cls := "KnowHouse$FacetCounts", name := "changed", desc := "()I" } : Jvm.MethodName)) ∈ lw_all := lw_g (lw_at lw_m20 154 rfl) rfl
theorem q5193 : (Jvm.Cond.selects "KnowHouse$FacetCounts" ({ cls := "KnowHouse$FacetCounts", name := "changed", desc := "()I" } : Jvm.MethodName) ({ cls := "KnowHouse$FacetCounts", name := "changed", desc := "()I" } : Jvm.MethodName)) ∈ lw_all := lw_g (lw_at lw_m20 155 rfl) rfl
theorem q5194 : (Jvm.Cond.code ({ cls := "KnowHouse$FacetCounts", name := "changed", desc := "()I" } : Jvm.MethodName) prog_20_method_21_code (3 : Nat) (Option.some Jvm.ClassFile.FieldType.int)) ∈ lw_all := lw_g (lw_at lw_m20 156 rfl) rfl
theorem q5195 : (Jvm.Cond.methodLink "KnowHouse" (801 : Nat) ({ cls := "KnowHouse$FacetCounts", name := "rows", desc := "()I" } : Jvm.MethodName)) ∈ lw_all := lw_g (lw_at lw_m20 157 rfl) rfl
theorem q5196 : (Jvm.Cond.instanceMethod ({ cls := "KnowHouse$FacetCounts", name := "rows", desc := "()I" } : Jvm.MethodName)) ∈ lw_all := lw_g (lw_at lw_m20 158 rfl) rfl
theorem q5197 : (Jvm.Cond.selects "KnowHouse$FacetCounts" ({ cls := "KnowHouse$FacetCounts", name := "rows", desc := "()I" } : Jvm.MethodName) ({ cls := "KnowHouse$FacetCounts", name := "rows", desc := "()I" } : Jvm.MethodName)) ∈ lw_all := lw_g (lw_at lw_m20 159 rfl) rfl
theorem q5198 : (Jvm.Cond.code ({ cls := "KnowHouse$FacetCounts", name := "rows", desc := "()I" } : Jvm.MethodName) prog_20_method_22_code (1 : Nat) (Option.some Jvm.ClassFile.FieldType.int)) ∈ lw_all := lw_g (lw_at lw_m20 160 rfl) rfl
theorem q5199 : (Jvm.Cond.methodLink "KnowHouse" (573 : Nat) ({ cls := "KnowHouse", name := "tablesCall", desc := "(I)J" } : Jvm.MethodName)) ∈ lw_all := lw_g (lw_at lw_m20 161 rfl) rfl
theorem q5201 : (Jvm.Cond.instanceMethod ({ cls := "KnowHouse", name := "tablesCall", desc := "(I)J" } : Jvm.MethodName)) ∈ lw_all := lw_g (lw_at lw_m20 163 rfl) rfl
theorem q5202 : (Jvm.Cond.code ({ cls := "KnowHouse", name := "tablesCall", desc := "(I)J" } : Jvm.MethodName) prog_1_method_34_code (2 : Nat) (Option.some Jvm.ClassFile.FieldType.long)) ∈ lw_all := lw_g (lw_at lw_m20 164 rfl) rfl
theorem q5203 : (Jvm.Cond.methodLink "KnowHouse" (802 : Nat) ({ cls := "KnowHouse$VirtualRewrite", name := "key", desc := "(IIZ)I" } : Jvm.MethodName)) ∈ lw_all := lw_g (lw_at lw_m20 165 rfl) rfl
theorem q5204 : (Jvm.Cond.instanceMethod ({ cls := "KnowHouse$VirtualRewrite", name := "key", desc := "(IIZ)I" } : Jvm.MethodName)) ∈ lw_all := lw_g (lw_at lw_m20 166 rfl) rfl
theorem q5205 : (Jvm.Cond.selects "KnowHouse$VirtualRewrite" ({ cls := "KnowHouse$VirtualRewrite", name := "key", desc := "(IIZ)I" } : Jvm.MethodName) ({ cls := "KnowHouse$VirtualRewrite", name := "key", desc := "(IIZ)I" } : Jvm.MethodName)) ∈ lw_all := lw_g (lw_at lw_m20 167 rfl) rfl
theorem q5206 : (Jvm.Cond.code ({ cls := "KnowHouse$VirtualRewrite", name := "key", desc := "(IIZ)I" } : Jvm.MethodName) prog_72_method_3_code (5 : Nat) (Option.some Jvm.ClassFile.FieldType.int)) ∈ lw_all := lw_g (lw_at lw_m20 168 rfl) rfl
theorem q5216 : (Jvm.Cond.methodLink "KnowHouse" (804 : Nat) ({ cls := "KnowHouse$VirtualRewrite", name := "row", desc := "(IIII)I" } : Jvm.MethodName)) ∈ lw_all := lw_g (lw_at lw_m20 178 rfl) rfl
theorem q5217 : (Jvm.Cond.instanceMethod ({ cls := "KnowHouse$VirtualRewrite", name := "row", desc := "(IIII)I" } : Jvm.MethodName)) ∈ lw_all := lw_g (lw_at lw_m20 179 rfl) rfl
theorem q5218 : (Jvm.Cond.selects "KnowHouse$VirtualRewrite" ({ cls := "KnowHouse$VirtualRewrite", name := "row", desc := "(IIII)I" } : Jvm.MethodName) ({ cls := "KnowHouse$VirtualRewrite", name := "row", desc := "(IIII)I" } : Jvm.MethodName)) ∈ lw_all := lw_g (lw_at lw_m20 180 rfl) rfl
theorem q5219 : (Jvm.Cond.code ({ cls := "KnowHouse$VirtualRewrite", name := "row", desc := "(IIII)I" } : Jvm.MethodName) prog_72_method_4_code (8 : Nat) (Option.some Jvm.ClassFile.FieldType.int)) ∈ lw_all := lw_g (lw_at lw_m20 181 rfl) rfl
theorem q5221 : (Jvm.Cond.methodLink "KnowHouse" (806 : Nat) ({ cls := "KnowHouse$VirtualRewrite", name := "drop", desc := "(II)I" } : Jvm.MethodName)) ∈ lw_all := lw_g (lw_at lw_m20 183 rfl) rfl
theorem q5222 : (Jvm.Cond.instanceMethod ({ cls := "KnowHouse$VirtualRewrite", name := "drop", desc := "(II)I" } : Jvm.MethodName)) ∈ lw_all := lw_g (lw_at lw_m20 184 rfl) rfl
theorem q5223 : (Jvm.Cond.selects "KnowHouse$VirtualRewrite" ({ cls := "KnowHouse$VirtualRewrite", name := "drop", desc := "(II)I" } : Jvm.MethodName) ({ cls := "KnowHouse$VirtualRewrite", name := "drop", desc := "(II)I" } : Jvm.MethodName)) ∈ lw_all := lw_g (lw_at lw_m20 185 rfl) rfl
theorem q5224 : (Jvm.Cond.code ({ cls := "KnowHouse$VirtualRewrite", name := "drop", desc := "(II)I" } : Jvm.MethodName) prog_72_method_5_code (3 : Nat) (Option.some Jvm.ClassFile.FieldType.int)) ∈ lw_all := lw_g (lw_at lw_m20 186 rfl) rfl
theorem q5229 : (Jvm.Cond.methodLink "KnowHouse" (808 : Nat) ({ cls := "KnowHouse$VirtualRewrite", name := "mapping", desc := "(IIIIII)I" } : Jvm.MethodName)) ∈ lw_all := lw_g (lw_at lw_m20 191 rfl) rfl
theorem q5230 : (Jvm.Cond.instanceMethod ({ cls := "KnowHouse$VirtualRewrite", name := "mapping", desc := "(IIIIII)I" } : Jvm.MethodName)) ∈ lw_all := lw_g (lw_at lw_m20 192 rfl) rfl
theorem q5231 : (Jvm.Cond.selects "KnowHouse$VirtualRewrite" ({ cls := "KnowHouse$VirtualRewrite", name := "mapping", desc := "(IIIIII)I" } : Jvm.MethodName) ({ cls := "KnowHouse$VirtualRewrite", name := "mapping", desc := "(IIIIII)I" } : Jvm.MethodName)) ∈ lw_all := lw_g (lw_at lw_m20 193 rfl) rfl
theorem q5232 : (Jvm.Cond.code ({ cls := "KnowHouse$VirtualRewrite", name := "mapping", desc := "(IIIIII)I" } : Jvm.MethodName) prog_72_method_6_code (9 : Nat) (Option.some Jvm.ClassFile.FieldType.int)) ∈ lw_all := lw_g (lw_at lw_m20 194 rfl) rfl
theorem q5255 : (Jvm.Cond.methodLink "KnowHouse" (810 : Nat) ({ cls := "KnowHouse$VirtualRewrite", name := "triples", desc := "()I" } : Jvm.MethodName)) ∈ lw_all := lw_g (lw_at lw_m20 217 rfl) rfl
theorem q5256 : (Jvm.Cond.instanceMethod ({ cls := "KnowHouse$VirtualRewrite", name := "triples", desc := "()I" } : Jvm.MethodName)) ∈ lw_all := lw_g (lw_at lw_m20 218 rfl) rfl
theorem q5257 : (Jvm.Cond.selects "KnowHouse$VirtualRewrite" ({ cls := "KnowHouse$VirtualRewrite", name := "triples", desc := "()I" } : Jvm.MethodName) ({ cls := "KnowHouse$VirtualRewrite", name := "triples", desc := "()I" } : Jvm.MethodName)) ∈ lw_all := lw_g (lw_at lw_m20 219 rfl) rfl
theorem q5258 : (Jvm.Cond.code ({ cls := "KnowHouse$VirtualRewrite", name := "triples", desc := "()I" } : Jvm.MethodName) prog_72_method_8_code (4 : Nat) (Option.some Jvm.ClassFile.FieldType.int)) ∈ lw_all := lw_g (lw_at lw_m20 220 rfl) rfl
theorem q5263 : (Jvm.Cond.methodLink "KnowHouse" (811 : Nat) ({ cls := "KnowHouse$VirtualRewrite", name := "atom", desc := "(III)I" } : Jvm.MethodName)) ∈ lw_all := lw_g (lw_at lw_m20 225 rfl) rfl
theorem q5264 : (Jvm.Cond.instanceMethod ({ cls := "KnowHouse$VirtualRewrite", name := "atom", desc := "(III)I" } : Jvm.MethodName)) ∈ lw_all := lw_g (lw_at lw_m20 226 rfl) rfl
theorem q5265 : (Jvm.Cond.selects "KnowHouse$VirtualRewrite" ({ cls := "KnowHouse$VirtualRewrite", name := "atom", desc := "(III)I" } : Jvm.MethodName) ({ cls := "KnowHouse$VirtualRewrite", name := "atom", desc := "(III)I" } : Jvm.MethodName)) ∈ lw_all := lw_g (lw_at lw_m20 227 rfl) rfl
theorem q5266 : (Jvm.Cond.code ({ cls := "KnowHouse$VirtualRewrite", name := "atom", desc := "(III)I" } : Jvm.MethodName) prog_72_method_10_code (4 : Nat) (Option.some Jvm.ClassFile.FieldType.int)) ∈ lw_all := lw_g (lw_at lw_m20 228 rfl) rfl
theorem q5285 : (Jvm.Cond.methodLink "KnowHouse" (813 : Nat) ({ cls := "KnowHouse$VirtualRewrite", name := "span", desc := "(III)I" } : Jvm.MethodName)) ∈ lw_all := lw_g (lw_at lw_m21 7 rfl) rfl
theorem q5286 : (Jvm.Cond.instanceMethod ({ cls := "KnowHouse$VirtualRewrite", name := "span", desc := "(III)I" } : Jvm.MethodName)) ∈ lw_all := lw_g (lw_at lw_m21 8 rfl) rfl
theorem q5287 : (Jvm.Cond.selects "KnowHouse$VirtualRewrite" ({ cls := "KnowHouse$VirtualRewrite", name := "span", desc := "(III)I" } : Jvm.MethodName) ({ cls := "KnowHouse$VirtualRewrite", name := "span", desc := "(III)I" } : Jvm.MethodName)) ∈ lw_all := lw_g (lw_at lw_m21 9 rfl) rfl
theorem q5288 : (Jvm.Cond.code ({ cls := "KnowHouse$VirtualRewrite", name := "span", desc := "(III)I" } : Jvm.MethodName) prog_72_method_11_code (4 : Nat) (Option.some Jvm.ClassFile.FieldType.int)) ∈ lw_all := lw_g (lw_at lw_m21 10 rfl) rfl
theorem q5289 : (Jvm.Cond.methodLink "KnowHouse" (815 : Nat) ({ cls := "KnowHouse$VirtualRewrite", name := "clear", desc := "()I" } : Jvm.MethodName)) ∈ lw_all := lw_g (lw_at lw_m21 11 rfl) rfl
theorem q5290 : (Jvm.Cond.instanceMethod ({ cls := "KnowHouse$VirtualRewrite", name := "clear", desc := "()I" } : Jvm.MethodName)) ∈ lw_all := lw_g (lw_at lw_m21 12 rfl) rfl
theorem q5291 : (Jvm.Cond.selects "KnowHouse$VirtualRewrite" ({ cls := "KnowHouse$VirtualRewrite", name := "clear", desc := "()I" } : Jvm.MethodName) ({ cls := "KnowHouse$VirtualRewrite", name := "clear", desc := "()I" } : Jvm.MethodName)) ∈ lw_all := lw_g (lw_at lw_m21 13 rfl) rfl
theorem q5292 : (Jvm.Cond.code ({ cls := "KnowHouse$VirtualRewrite", name := "clear", desc := "()I" } : Jvm.MethodName) prog_72_method_12_code (2 : Nat) (Option.some Jvm.ClassFile.FieldType.int)) ∈ lw_all := lw_g (lw_at lw_m21 14 rfl) rfl
theorem q5293 : (Jvm.Cond.methodLink "KnowHouse" (817 : Nat) ({ cls := "KnowHouse$VirtualRewrite", name := "unions", desc := "()I" } : Jvm.MethodName)) ∈ lw_all := lw_g (lw_at lw_m21 15 rfl) rfl
theorem q5294 : (Jvm.Cond.instanceMethod ({ cls := "KnowHouse$VirtualRewrite", name := "unions", desc := "()I" } : Jvm.MethodName)) ∈ lw_all := lw_g (lw_at lw_m21 16 rfl) rfl
theorem q5295 : (Jvm.Cond.selects "KnowHouse$VirtualRewrite" ({ cls := "KnowHouse$VirtualRewrite", name := "unions", desc := "()I" } : Jvm.MethodName) ({ cls := "KnowHouse$VirtualRewrite", name := "unions", desc := "()I" } : Jvm.MethodName)) ∈ lw_all := lw_g (lw_at lw_m21 17 rfl) rfl
theorem q5296 : (Jvm.Cond.code ({ cls := "KnowHouse$VirtualRewrite", name := "unions", desc := "()I" } : Jvm.MethodName) prog_72_method_21_code (2 : Nat) (Option.some Jvm.ClassFile.FieldType.int)) ∈ lw_all := lw_g (lw_at lw_m21 18 rfl) rfl
theorem q5297 : (Jvm.Cond.methodLink "KnowHouse" (819 : Nat) ({ cls := "KnowHouse$VirtualRewrite", name := "union", desc := "(II)I" } : Jvm.MethodName)) ∈ lw_all := lw_g (lw_at lw_m21 19 rfl) rfl
theorem q5298 : (Jvm.Cond.instanceMethod ({ cls := "KnowHouse$VirtualRewrite", name := "union", desc := "(II)I" } : Jvm.MethodName)) ∈ lw_all := lw_g (lw_at lw_m21 20 rfl) rfl
theorem q5299 : (Jvm.Cond.selects "KnowHouse$VirtualRewrite" ({ cls := "KnowHouse$VirtualRewrite", name := "union", desc := "(II)I" } : Jvm.MethodName) ({ cls := "KnowHouse$VirtualRewrite", name := "union", desc := "(II)I" } : Jvm.MethodName)) ∈ lw_all := lw_g (lw_at lw_m21 21 rfl) rfl
theorem q5300 : (Jvm.Cond.code ({ cls := "KnowHouse$VirtualRewrite", name := "union", desc := "(II)I" } : Jvm.MethodName) prog_72_method_22_code (4 : Nat) (Option.some Jvm.ClassFile.FieldType.int)) ∈ lw_all := lw_g (lw_at lw_m21 22 rfl) rfl
theorem q5301 : (Jvm.Cond.methodLink "KnowHouse" (821 : Nat) ({ cls := "KnowHouse$VirtualRewrite", name := "estimate", desc := "(I)I" } : Jvm.MethodName)) ∈ lw_all := lw_g (lw_at lw_m21 23 rfl) rfl
theorem q5302 : (Jvm.Cond.instanceMethod ({ cls := "KnowHouse$VirtualRewrite", name := "estimate", desc := "(I)I" } : Jvm.MethodName)) ∈ lw_all := lw_g (lw_at lw_m21 24 rfl) rfl
theorem q5303 : (Jvm.Cond.selects "KnowHouse$VirtualRewrite" ({ cls := "KnowHouse$VirtualRewrite", name := "estimate", desc := "(I)I" } : Jvm.MethodName) ({ cls := "KnowHouse$VirtualRewrite", name := "estimate", desc := "(I)I" } : Jvm.MethodName)) ∈ lw_all := lw_g (lw_at lw_m21 25 rfl) rfl
theorem q5304 : (Jvm.Cond.code ({ cls := "KnowHouse$VirtualRewrite", name := "estimate", desc := "(I)I" } : Jvm.MethodName) prog_72_method_23_code (5 : Nat) (Option.some Jvm.ClassFile.FieldType.int)) ∈ lw_all := lw_g (lw_at lw_m21 26 rfl) rfl
theorem q5305 : (Jvm.Cond.methodLink "KnowHouse" (826 : Nat) ({ cls := "KnowHouse$VirtualRewrite", name := "found", desc := "(II)I" } : Jvm.MethodName)) ∈ lw_all := lw_g (lw_at lw_m21 27 rfl) rfl
theorem q5306 : (Jvm.Cond.instanceMethod ({ cls := "KnowHouse$VirtualRewrite", name := "found", desc := "(II)I" } : Jvm.MethodName)) ∈ lw_all := lw_g (lw_at lw_m21 28 rfl) rfl
theorem q5307 : (Jvm.Cond.selects "KnowHouse$VirtualRewrite" ({ cls := "KnowHouse$VirtualRewrite", name := "found", desc := "(II)I" } : Jvm.MethodName) ({ cls := "KnowHouse$VirtualRewrite", name := "found", desc := "(II)I" } : Jvm.MethodName)) ∈ lw_all := lw_g (lw_at lw_m21 29 rfl) rfl
theorem q5308 : (Jvm.Cond.code ({ cls := "KnowHouse$VirtualRewrite", name := "found", desc := "(II)I" } : Jvm.MethodName) prog_72_method_34_code (3 : Nat) (Option.some Jvm.ClassFile.FieldType.int)) ∈ lw_all := lw_g (lw_at lw_m21 30 rfl) rfl
theorem q5309 : (Jvm.Cond.methodLink "KnowHouse" (576 : Nat) ({ cls := "KnowHouse", name := "rulesCall", desc := "(I)J" } : Jvm.MethodName)) ∈ lw_all := lw_g (lw_at lw_m21 31 rfl) rfl
theorem q5311 : (Jvm.Cond.instanceMethod ({ cls := "KnowHouse", name := "rulesCall", desc := "(I)J" } : Jvm.MethodName)) ∈ lw_all := lw_g (lw_at lw_m21 33 rfl) rfl
theorem q5312 : (Jvm.Cond.code ({ cls := "KnowHouse", name := "rulesCall", desc := "(I)J" } : Jvm.MethodName) prog_1_method_35_code (2 : Nat) (Option.some Jvm.ClassFile.FieldType.long)) ∈ lw_all := lw_g (lw_at lw_m21 34 rfl) rfl
theorem q5313 : (Jvm.Cond.methodLink "KnowHouse" (832 : Nat) ({ cls := "KnowHouse$RuleEngine", name := "rule", desc := "(III)I" } : Jvm.MethodName)) ∈ lw_all := lw_g (lw_at lw_m21 35 rfl) rfl
theorem q5314 : (Jvm.Cond.instanceMethod ({ cls := "KnowHouse$RuleEngine", name := "rule", desc := "(III)I" } : Jvm.MethodName)) ∈ lw_all := lw_g (lw_at lw_m21 36 rfl) rfl
theorem q5315 : (Jvm.Cond.selects "KnowHouse$RuleEngine" ({ cls := "KnowHouse$RuleEngine", name := "rule", desc := "(III)I" } : Jvm.MethodName) ({ cls := "KnowHouse$RuleEngine", name := "rule", desc := "(III)I" } : Jvm.MethodName)) ∈ lw_all := lw_g (lw_at lw_m21 37 rfl) rfl
theorem q5316 : (Jvm.Cond.code ({ cls := "KnowHouse$RuleEngine", name := "rule", desc := "(III)I" } : Jvm.MethodName) prog_58_method_11_code (4 : Nat) (Option.some Jvm.ClassFile.FieldType.int)) ∈ lw_all := lw_g (lw_at lw_m21 38 rfl) rfl
theorem q5365 : (Jvm.Cond.methodLink "KnowHouse" (834 : Nat) ({ cls := "KnowHouse$RuleEngine", name := "body", desc := "(IIIIZ)I" } : Jvm.MethodName)) ∈ lw_all := lw_g (lw_at lw_m21 87 rfl) rfl
theorem q5366 : (Jvm.Cond.instanceMethod ({ cls := "KnowHouse$RuleEngine", name := "body", desc := "(IIIIZ)I" } : Jvm.MethodName)) ∈ lw_all := lw_g (lw_at lw_m21 88 rfl) rfl
theorem q5367 : (Jvm.Cond.selects "KnowHouse$RuleEngine" ({ cls := "KnowHouse$RuleEngine", name := "body", desc := "(IIIIZ)I" } : Jvm.MethodName) ({ cls := "KnowHouse$RuleEngine", name := "body", desc := "(IIIIZ)I" } : Jvm.MethodName)) ∈ lw_all := lw_g (lw_at lw_m21 89 rfl) rfl
theorem q5368 : (Jvm.Cond.code ({ cls := "KnowHouse$RuleEngine", name := "body", desc := "(IIIIZ)I" } : Jvm.MethodName) prog_58_method_13_code (6 : Nat) (Option.some Jvm.ClassFile.FieldType.int)) ∈ lw_all := lw_g (lw_at lw_m21 90 rfl) rfl
theorem q5377 : (Jvm.Cond.methodLink "KnowHouse" (837 : Nat) ({ cls := "KnowHouse$RuleEngine", name := "filter", desc := "(IIII)I" } : Jvm.MethodName)) ∈ lw_all := lw_g (lw_at lw_m21 99 rfl) rfl
theorem q5378 : (Jvm.Cond.instanceMethod ({ cls := "KnowHouse$RuleEngine", name := "filter", desc := "(IIII)I" } : Jvm.MethodName)) ∈ lw_all := lw_g (lw_at lw_m21 100 rfl) rfl
theorem q5379 : (Jvm.Cond.selects "KnowHouse$RuleEngine" ({ cls := "KnowHouse$RuleEngine", name := "filter", desc := "(IIII)I" } : Jvm.MethodName) ({ cls := "KnowHouse$RuleEngine", name := "filter", desc := "(IIII)I" } : Jvm.MethodName)) ∈ lw_all := lw_g (lw_at lw_m21 101 rfl) rfl
theorem q5380 : (Jvm.Cond.code ({ cls := "KnowHouse$RuleEngine", name := "filter", desc := "(IIII)I" } : Jvm.MethodName) prog_58_method_14_code (5 : Nat) (Option.some Jvm.ClassFile.FieldType.int)) ∈ lw_all := lw_g (lw_at lw_m21 102 rfl) rfl
theorem q5381 : (Jvm.Cond.methodLink "KnowHouse" (839 : Nat) ({ cls := "KnowHouse$RuleEngine", name := "aggregate", desc := "(III)I" } : Jvm.MethodName)) ∈ lw_all := lw_g (lw_at lw_m21 103 rfl) rfl
theorem q5382 : (Jvm.Cond.instanceMethod ({ cls := "KnowHouse$RuleEngine", name := "aggregate", desc := "(III)I" } : Jvm.MethodName)) ∈ lw_all := lw_g (lw_at lw_m21 104 rfl) rfl
theorem q5383 : (Jvm.Cond.selects "KnowHouse$RuleEngine" ({ cls := "KnowHouse$RuleEngine", name := "aggregate", desc := "(III)I" } : Jvm.MethodName) ({ cls := "KnowHouse$RuleEngine", name := "aggregate", desc := "(III)I" } : Jvm.MethodName)) ∈ lw_all := lw_g (lw_at lw_m21 105 rfl) rfl
theorem q5384 : (Jvm.Cond.code ({ cls := "KnowHouse$RuleEngine", name := "aggregate", desc := "(III)I" } : Jvm.MethodName) prog_58_method_15_code (5 : Nat) (Option.some Jvm.ClassFile.FieldType.int)) ∈ lw_all := lw_g (lw_at lw_m21 106 rfl) rfl
theorem q5385 : (Jvm.Cond.methodLink "KnowHouse" (841 : Nat) ({ cls := "KnowHouse$RuleEngine", name := "drop", desc := "(I)I" } : Jvm.MethodName)) ∈ lw_all := lw_g (lw_at lw_m21 107 rfl) rfl
theorem q5386 : (Jvm.Cond.instanceMethod ({ cls := "KnowHouse$RuleEngine", name := "drop", desc := "(I)I" } : Jvm.MethodName)) ∈ lw_all := lw_g (lw_at lw_m21 108 rfl) rfl
theorem q5387 : (Jvm.Cond.selects "KnowHouse$RuleEngine" ({ cls := "KnowHouse$RuleEngine", name := "drop", desc := "(I)I" } : Jvm.MethodName) ({ cls := "KnowHouse$RuleEngine", name := "drop", desc := "(I)I" } : Jvm.MethodName)) ∈ lw_all := lw_g (lw_at lw_m21 109 rfl) rfl
theorem q5388 : (Jvm.Cond.code ({ cls := "KnowHouse$RuleEngine", name := "drop", desc := "(I)I" } : Jvm.MethodName) prog_58_method_16_code (2 : Nat) (Option.some Jvm.ClassFile.FieldType.int)) ∈ lw_all := lw_g (lw_at lw_m21 110 rfl) rfl
theorem q5390 : (Jvm.Cond.methodLink "KnowHouse" (842 : Nat) ({ cls := "KnowHouse$RuleEngine", name := "safe", desc := "(I)I" } : Jvm.MethodName)) ∈ lw_all := lw_g (lw_at lw_m21 112 rfl) rfl
theorem q5391 : (Jvm.Cond.instanceMethod ({ cls := "KnowHouse$RuleEngine", name := "safe", desc := "(I)I" } : Jvm.MethodName)) ∈ lw_all := lw_g (lw_at lw_m21 113 rfl) rfl
theorem q5392 : (Jvm.Cond.selects "KnowHouse$RuleEngine" ({ cls := "KnowHouse$RuleEngine", name := "safe", desc := "(I)I" } : Jvm.MethodName) ({ cls := "KnowHouse$RuleEngine", name := "safe", desc := "(I)I" } : Jvm.MethodName)) ∈ lw_all := lw_g (lw_at lw_m21 114 rfl) rfl
theorem q5393 : (Jvm.Cond.code ({ cls := "KnowHouse$RuleEngine", name := "safe", desc := "(I)I" } : Jvm.MethodName) prog_58_method_17_code (2 : Nat) (Option.some Jvm.ClassFile.FieldType.int)) ∈ lw_all := lw_g (lw_at lw_m21 115 rfl) rfl
theorem q5394 : (Jvm.Cond.methodLink "KnowHouse" (844 : Nat) ({ cls := "KnowHouse$RuleEngine", name := "run", desc := "()I" } : Jvm.MethodName)) ∈ lw_all := lw_g (lw_at lw_m21 116 rfl) rfl
theorem q5395 : (Jvm.Cond.instanceMethod ({ cls := "KnowHouse$RuleEngine", name := "run", desc := "()I" } : Jvm.MethodName)) ∈ lw_all := lw_g (lw_at lw_m21 117 rfl) rfl
theorem q5396 : (Jvm.Cond.selects "KnowHouse$RuleEngine" ({ cls := "KnowHouse$RuleEngine", name := "run", desc := "()I" } : Jvm.MethodName) ({ cls := "KnowHouse$RuleEngine", name := "run", desc := "()I" } : Jvm.MethodName)) ∈ lw_all := lw_g (lw_at lw_m21 118 rfl) rfl
theorem q5397 : (Jvm.Cond.code ({ cls := "KnowHouse$RuleEngine", name := "run", desc := "()I" } : Jvm.MethodName) prog_58_method_34_code (1 : Nat) (Option.some Jvm.ClassFile.FieldType.int)) ∈ lw_all := lw_g (lw_at lw_m21 119 rfl) rfl
theorem q5398 : (Jvm.Cond.methodLink "KnowHouse" (845 : Nat) ({ cls := "KnowHouse$RuleEngine", name := "stratum", desc := "(I)I" } : Jvm.MethodName)) ∈ lw_all := lw_g (lw_at lw_m21 120 rfl) rfl
theorem q5399 : (Jvm.Cond.instanceMethod ({ cls := "KnowHouse$RuleEngine", name := "stratum", desc := "(I)I" } : Jvm.MethodName)) ∈ lw_all := lw_g (lw_at lw_m21 121 rfl) rfl
theorem q5400 : (Jvm.Cond.selects "KnowHouse$RuleEngine" ({ cls := "KnowHouse$RuleEngine", name := "stratum", desc := "(I)I" } : Jvm.MethodName) ({ cls := "KnowHouse$RuleEngine", name := "stratum", desc := "(I)I" } : Jvm.MethodName)) ∈ lw_all := lw_g (lw_at lw_m21 122 rfl) rfl
theorem q5401 : (Jvm.Cond.code ({ cls := "KnowHouse$RuleEngine", name := "stratum", desc := "(I)I" } : Jvm.MethodName) prog_58_method_35_code (2 : Nat) (Option.some Jvm.ClassFile.FieldType.int)) ∈ lw_all := lw_g (lw_at lw_m21 123 rfl) rfl
theorem q5402 : (Jvm.Cond.methodLink "KnowHouse" (849 : Nat) ({ cls := "KnowHouse$RuleEngine", name := "round", desc := "(III)I" } : Jvm.MethodName)) ∈ lw_all := lw_g (lw_at lw_m21 124 rfl) rfl
theorem q5403 : (Jvm.Cond.instanceMethod ({ cls := "KnowHouse$RuleEngine", name := "round", desc := "(III)I" } : Jvm.MethodName)) ∈ lw_all := lw_g (lw_at lw_m21 125 rfl) rfl
theorem q5404 : (Jvm.Cond.selects "KnowHouse$RuleEngine" ({ cls := "KnowHouse$RuleEngine", name := "round", desc := "(III)I" } : Jvm.MethodName) ({ cls := "KnowHouse$RuleEngine", name := "round", desc := "(III)I" } : Jvm.MethodName)) ∈ lw_all := lw_g (lw_at lw_m21 126 rfl) rfl
theorem q5405 : (Jvm.Cond.code ({ cls := "KnowHouse$RuleEngine", name := "round", desc := "(III)I" } : Jvm.MethodName) prog_58_method_37_code (4 : Nat) (Option.some Jvm.ClassFile.FieldType.int)) ∈ lw_all := lw_g (lw_at lw_m21 127 rfl) rfl
theorem q5406 : (Jvm.Cond.methodLink "KnowHouse" (851 : Nat) ({ cls := "KnowHouse$RuleEngine", name := "counts", desc := "(III)I" } : Jvm.MethodName)) ∈ lw_all := lw_g (lw_at lw_m21 128 rfl) rfl
theorem q5407 : (Jvm.Cond.instanceMethod ({ cls := "KnowHouse$RuleEngine", name := "counts", desc := "(III)I" } : Jvm.MethodName)) ∈ lw_all := lw_g (lw_at lw_m21 129 rfl) rfl
theorem q5408 : (Jvm.Cond.selects "KnowHouse$RuleEngine" ({ cls := "KnowHouse$RuleEngine", name := "counts", desc := "(III)I" } : Jvm.MethodName) ({ cls := "KnowHouse$RuleEngine", name := "counts", desc := "(III)I" } : Jvm.MethodName)) ∈ lw_all := lw_g (lw_at lw_m21 130 rfl) rfl
theorem q5409 : (Jvm.Cond.code ({ cls := "KnowHouse$RuleEngine", name := "counts", desc := "(III)I" } : Jvm.MethodName) prog_58_method_38_code (4 : Nat) (Option.some Jvm.ClassFile.FieldType.int)) ∈ lw_all := lw_g (lw_at lw_m21 131 rfl) rfl
theorem q5410 : (Jvm.Cond.methodLink "KnowHouse" (853 : Nat) ({ cls := "KnowHouse$RuleEngine", name := "row", desc := "(I)I" } : Jvm.MethodName)) ∈ lw_all := lw_g (lw_at lw_m21 132 rfl) rfl
theorem q5411 : (Jvm.Cond.instanceMethod ({ cls := "KnowHouse$RuleEngine", name := "row", desc := "(I)I" } : Jvm.MethodName)) ∈ lw_all := lw_g (lw_at lw_m21 133 rfl) rfl
theorem q5412 : (Jvm.Cond.selects "KnowHouse$RuleEngine" ({ cls := "KnowHouse$RuleEngine", name := "row", desc := "(I)I" } : Jvm.MethodName) ({ cls := "KnowHouse$RuleEngine", name := "row", desc := "(I)I" } : Jvm.MethodName)) ∈ lw_all := lw_g (lw_at lw_m21 134 rfl) rfl
theorem q5413 : (Jvm.Cond.code ({ cls := "KnowHouse$RuleEngine", name := "row", desc := "(I)I" } : Jvm.MethodName) prog_58_method_39_code (3 : Nat) (Option.some Jvm.ClassFile.FieldType.int)) ∈ lw_all := lw_g (lw_at lw_m21 135 rfl) rfl
theorem q5414 : (Jvm.Cond.methodLink "KnowHouse" (855 : Nat) ({ cls := "KnowHouse$RuleEngine", name := "size", desc := "()I" } : Jvm.MethodName)) ∈ lw_all := lw_g (lw_at lw_m21 136 rfl) rfl
theorem q5415 : (Jvm.Cond.instanceMethod ({ cls := "KnowHouse$RuleEngine", name := "size", desc := "()I" } : Jvm.MethodName)) ∈ lw_all := lw_g (lw_at lw_m21 137 rfl) rfl
theorem q5416 : (Jvm.Cond.selects "KnowHouse$RuleEngine" ({ cls := "KnowHouse$RuleEngine", name := "size", desc := "()I" } : Jvm.MethodName) ({ cls := "KnowHouse$RuleEngine", name := "size", desc := "()I" } : Jvm.MethodName)) ∈ lw_all := lw_g (lw_at lw_m21 138 rfl) rfl
theorem q5417 : (Jvm.Cond.code ({ cls := "KnowHouse$RuleEngine", name := "size", desc := "()I" } : Jvm.MethodName) prog_58_method_40_code (1 : Nat) (Option.some Jvm.ClassFile.FieldType.int)) ∈ lw_all := lw_g (lw_at lw_m21 139 rfl) rfl
theorem q5419 : (Jvm.Cond.methodLink "KnowHouse" (579 : Nat) ({ cls := "KnowHouse", name := "rewriteCall", desc := "(I)J" } : Jvm.MethodName)) ∈ lw_all := lw_g (lw_at lw_m21 141 rfl) rfl
theorem q5421 : (Jvm.Cond.instanceMethod ({ cls := "KnowHouse", name := "rewriteCall", desc := "(I)J" } : Jvm.MethodName)) ∈ lw_all := lw_g (lw_at lw_m21 143 rfl) rfl
theorem q5422 : (Jvm.Cond.code ({ cls := "KnowHouse", name := "rewriteCall", desc := "(I)J" } : Jvm.MethodName) prog_1_method_36_code (2 : Nat) (Option.some Jvm.ClassFile.FieldType.long)) ∈ lw_all := lw_g (lw_at lw_m21 144 rfl) rfl
theorem q5423 : (Jvm.Cond.methodLink "KnowHouse" (860 : Nat) ({ cls := "KnowHouse$QlRewrite", name := "forget", desc := "(ZIII)I" } : Jvm.MethodName)) ∈ lw_all := lw_g (lw_at lw_m21 145 rfl) rfl
theorem q5424 : (Jvm.Cond.instanceMethod ({ cls := "KnowHouse$QlRewrite", name := "forget", desc := "(ZIII)I" } : Jvm.MethodName)) ∈ lw_all := lw_g (lw_at lw_m21 146 rfl) rfl
theorem q5425 : (Jvm.Cond.selects "KnowHouse$QlRewrite" ({ cls := "KnowHouse$QlRewrite", name := "forget", desc := "(ZIII)I" } : Jvm.MethodName) ({ cls := "KnowHouse$QlRewrite", name := "forget", desc := "(ZIII)I" } : Jvm.MethodName)) ∈ lw_all := lw_g (lw_at lw_m21 147 rfl) rfl
theorem q5426 : (Jvm.Cond.code ({ cls := "KnowHouse$QlRewrite", name := "forget", desc := "(ZIII)I" } : Jvm.MethodName) prog_45_method_9_code (5 : Nat) (Option.some Jvm.ClassFile.FieldType.int)) ∈ lw_all := lw_g (lw_at lw_m21 148 rfl) rfl
theorem q5427 : (Jvm.Cond.methodLink "KnowHouse" (862 : Nat) ({ cls := "KnowHouse$QlRewrite", name := "question", desc := "(I)I" } : Jvm.MethodName)) ∈ lw_all := lw_g (lw_at lw_m21 149 rfl) rfl
theorem q5428 : (Jvm.Cond.instanceMethod ({ cls := "KnowHouse$QlRewrite", name := "question", desc := "(I)I" } : Jvm.MethodName)) ∈ lw_all := lw_g (lw_at lw_m21 150 rfl) rfl
theorem q5429 : (Jvm.Cond.selects "KnowHouse$QlRewrite" ({ cls := "KnowHouse$QlRewrite", name := "question", desc := "(I)I" } : Jvm.MethodName) ({ cls := "KnowHouse$QlRewrite", name := "question", desc := "(I)I" } : Jvm.MethodName)) ∈ lw_all := lw_g (lw_at lw_m21 151 rfl) rfl
theorem q5430 : (Jvm.Cond.code ({ cls := "KnowHouse$QlRewrite", name := "question", desc := "(I)I" } : Jvm.MethodName) prog_45_method_12_code (2 : Nat) (Option.some Jvm.ClassFile.FieldType.int)) ∈ lw_all := lw_g (lw_at lw_m21 152 rfl) rfl
theorem q5431 : (Jvm.Cond.methodLink "KnowHouse" (864 : Nat) ({ cls := "KnowHouse$QlRewrite", name := "atom", desc := "(IZIII)I" } : Jvm.MethodName)) ∈ lw_all := lw_g (lw_at lw_m21 153 rfl) rfl
theorem q5432 : (Jvm.Cond.instanceMethod ({ cls := "KnowHouse$QlRewrite", name := "atom", desc := "(IZIII)I" } : Jvm.MethodName)) ∈ lw_all := lw_g (lw_at lw_m21 154 rfl) rfl
theorem q5433 : (Jvm.Cond.selects "KnowHouse$QlRewrite" ({ cls := "KnowHouse$QlRewrite", name := "atom", desc := "(IZIII)I" } : Jvm.MethodName) ({ cls := "KnowHouse$QlRewrite", name := "atom", desc := "(IZIII)I" } : Jvm.MethodName)) ∈ lw_all := lw_g (lw_at lw_m21 155 rfl) rfl
theorem q5434 : (Jvm.Cond.code ({ cls := "KnowHouse$QlRewrite", name := "atom", desc := "(IZIII)I" } : Jvm.MethodName) prog_45_method_13_code (11 : Nat) (Option.some Jvm.ClassFile.FieldType.int)) ∈ lw_all := lw_g (lw_at lw_m21 156 rfl) rfl
theorem q5439 : (Jvm.Cond.methodLink "KnowHouse" (867 : Nat) ({ cls := "KnowHouse$QlRewrite", name := "forms", desc := "(I)I" } : Jvm.MethodName)) ∈ lw_all := lw_g (lw_at lw_m21 161 rfl) rfl
theorem q5440 : (Jvm.Cond.instanceMethod ({ cls := "KnowHouse$QlRewrite", name := "forms", desc := "(I)I" } : Jvm.MethodName)) ∈ lw_all := lw_g (lw_at lw_m21 162 rfl) rfl
theorem q5441 : (Jvm.Cond.selects "KnowHouse$QlRewrite" ({ cls := "KnowHouse$QlRewrite", name := "forms", desc := "(I)I" } : Jvm.MethodName) ({ cls := "KnowHouse$QlRewrite", name := "forms", desc := "(I)I" } : Jvm.MethodName)) ∈ lw_all := lw_g (lw_at lw_m21 163 rfl) rfl
theorem q5442 : (Jvm.Cond.code ({ cls := "KnowHouse$QlRewrite", name := "forms", desc := "(I)I" } : Jvm.MethodName) prog_45_method_26_code (3 : Nat) (Option.some Jvm.ClassFile.FieldType.int)) ∈ lw_all := lw_g (lw_at lw_m21 164 rfl) rfl
theorem q5559 : (Jvm.Cond.methodLink "KnowHouse" (869 : Nat) ({ cls := "KnowHouse$QlRewrite", name := "form", desc := "(III)I" } : Jvm.MethodName)) ∈ lw_all := lw_g (lw_at lw_m22 41 rfl) rfl
theorem q5560 : (Jvm.Cond.instanceMethod ({ cls := "KnowHouse$QlRewrite", name := "form", desc := "(III)I" } : Jvm.MethodName)) ∈ lw_all := lw_g (lw_at lw_m22 42 rfl) rfl
theorem q5561 : (Jvm.Cond.selects "KnowHouse$QlRewrite" ({ cls := "KnowHouse$QlRewrite", name := "form", desc := "(III)I" } : Jvm.MethodName) ({ cls := "KnowHouse$QlRewrite", name := "form", desc := "(III)I" } : Jvm.MethodName)) ∈ lw_all := lw_g (lw_at lw_m22 43 rfl) rfl
theorem q5562 : (Jvm.Cond.code ({ cls := "KnowHouse$QlRewrite", name := "form", desc := "(III)I" } : Jvm.MethodName) prog_45_method_27_code (7 : Nat) (Option.some Jvm.ClassFile.FieldType.int)) ∈ lw_all := lw_g (lw_at lw_m22 44 rfl) rfl
theorem q5563 : (Jvm.Cond.methodLink "KnowHouse" (871 : Nat) ({ cls := "KnowHouse$QlRewrite", name := "run", desc := "(I)I" } : Jvm.MethodName)) ∈ lw_all := lw_g (lw_at lw_m22 45 rfl) rfl
theorem q5564 : (Jvm.Cond.instanceMethod ({ cls := "KnowHouse$QlRewrite", name := "run", desc := "(I)I" } : Jvm.MethodName)) ∈ lw_all := lw_g (lw_at lw_m22 46 rfl) rfl
theorem q5565 : (Jvm.Cond.selects "KnowHouse$QlRewrite" ({ cls := "KnowHouse$QlRewrite", name := "run", desc := "(I)I" } : Jvm.MethodName) ({ cls := "KnowHouse$QlRewrite", name := "run", desc := "(I)I" } : Jvm.MethodName)) ∈ lw_all := lw_g (lw_at lw_m22 47 rfl) rfl
theorem q5566 : (Jvm.Cond.code ({ cls := "KnowHouse$QlRewrite", name := "run", desc := "(I)I" } : Jvm.MethodName) prog_45_method_30_code (3 : Nat) (Option.some Jvm.ClassFile.FieldType.int)) ∈ lw_all := lw_g (lw_at lw_m22 48 rfl) rfl
theorem q5600 : (Jvm.Cond.methodLink "KnowHouse" (873 : Nat) ({ cls := "KnowHouse$QlRewrite", name := "answer", desc := "(II)I" } : Jvm.MethodName)) ∈ lw_all := lw_g (lw_at lw_m22 82 rfl) rfl
theorem q5601 : (Jvm.Cond.instanceMethod ({ cls := "KnowHouse$QlRewrite", name := "answer", desc := "(II)I" } : Jvm.MethodName)) ∈ lw_all := lw_g (lw_at lw_m22 83 rfl) rfl
theorem q5602 : (Jvm.Cond.selects "KnowHouse$QlRewrite" ({ cls := "KnowHouse$QlRewrite", name := "answer", desc := "(II)I" } : Jvm.MethodName) ({ cls := "KnowHouse$QlRewrite", name := "answer", desc := "(II)I" } : Jvm.MethodName)) ∈ lw_all := lw_g (lw_at lw_m22 84 rfl) rfl
theorem q5603 : (Jvm.Cond.code ({ cls := "KnowHouse$QlRewrite", name := "answer", desc := "(II)I" } : Jvm.MethodName) prog_45_method_31_code (5 : Nat) (Option.some Jvm.ClassFile.FieldType.int)) ∈ lw_all := lw_g (lw_at lw_m22 85 rfl) rfl
theorem q5604 : (Jvm.Cond.methodLink "KnowHouse" (875 : Nat) ({ cls := "KnowHouse$QlRewrite", name := "why", desc := "(II)I" } : Jvm.MethodName)) ∈ lw_all := lw_g (lw_at lw_m22 86 rfl) rfl
theorem q5605 : (Jvm.Cond.instanceMethod ({ cls := "KnowHouse$QlRewrite", name := "why", desc := "(II)I" } : Jvm.MethodName)) ∈ lw_all := lw_g (lw_at lw_m22 87 rfl) rfl
theorem q5606 : (Jvm.Cond.selects "KnowHouse$QlRewrite" ({ cls := "KnowHouse$QlRewrite", name := "why", desc := "(II)I" } : Jvm.MethodName) ({ cls := "KnowHouse$QlRewrite", name := "why", desc := "(II)I" } : Jvm.MethodName)) ∈ lw_all := lw_g (lw_at lw_m22 88 rfl) rfl
theorem q5607 : (Jvm.Cond.code ({ cls := "KnowHouse$QlRewrite", name := "why", desc := "(II)I" } : Jvm.MethodName) prog_45_method_32_code (5 : Nat) (Option.some Jvm.ClassFile.FieldType.int)) ∈ lw_all := lw_g (lw_at lw_m22 89 rfl) rfl
theorem q5608 : (Jvm.Cond.methodLink "KnowHouse" (877 : Nat) ({ cls := "KnowHouse$QlRewrite", name := "broken", desc := "()I" } : Jvm.MethodName)) ∈ lw_all := lw_g (lw_at lw_m22 90 rfl) rfl
theorem q5609 : (Jvm.Cond.instanceMethod ({ cls := "KnowHouse$QlRewrite", name := "broken", desc := "()I" } : Jvm.MethodName)) ∈ lw_all := lw_g (lw_at lw_m22 91 rfl) rfl
theorem q5610 : (Jvm.Cond.selects "KnowHouse$QlRewrite" ({ cls := "KnowHouse$QlRewrite", name := "broken", desc := "()I" } : Jvm.MethodName) ({ cls := "KnowHouse$QlRewrite", name := "broken", desc := "()I" } : Jvm.MethodName)) ∈ lw_all := lw_g (lw_at lw_m22 92 rfl) rfl
theorem q5611 : (Jvm.Cond.code ({ cls := "KnowHouse$QlRewrite", name := "broken", desc := "()I" } : Jvm.MethodName) prog_45_method_33_code (2 : Nat) (Option.some Jvm.ClassFile.FieldType.int)) ∈ lw_all := lw_g (lw_at lw_m22 93 rfl) rfl
theorem q5612 : (Jvm.Cond.methodLink "KnowHouse" (878 : Nat) ({ cls := "KnowHouse$QlRewrite", name := "count", desc := "(I)I" } : Jvm.MethodName)) ∈ lw_all := lw_g (lw_at lw_m22 94 rfl) rfl
theorem q5613 : (Jvm.Cond.instanceMethod ({ cls := "KnowHouse$QlRewrite", name := "count", desc := "(I)I" } : Jvm.MethodName)) ∈ lw_all := lw_g (lw_at lw_m22 95 rfl) rfl
theorem q5614 : (Jvm.Cond.selects "KnowHouse$QlRewrite" ({ cls := "KnowHouse$QlRewrite", name := "count", desc := "(I)I" } : Jvm.MethodName) ({ cls := "KnowHouse$QlRewrite", name := "count", desc := "(I)I" } : Jvm.MethodName)) ∈ lw_all := lw_g (lw_at lw_m22 96 rfl) rfl
theorem q5615 : (Jvm.Cond.code ({ cls := "KnowHouse$QlRewrite", name := "count", desc := "(I)I" } : Jvm.MethodName) prog_45_method_34_code (2 : Nat) (Option.some Jvm.ClassFile.FieldType.int)) ∈ lw_all := lw_g (lw_at lw_m22 97 rfl) rfl
theorem q5616 : (Jvm.Cond.methodLink "KnowHouse" (879 : Nat) ({ cls := "KnowHouse$QlRewrite", name := "clear", desc := "()I" } : Jvm.MethodName)) ∈ lw_all := lw_g (lw_at lw_m22 98 rfl) rfl
theorem q5617 : (Jvm.Cond.instanceMethod ({ cls := "KnowHouse$QlRewrite", name := "clear", desc := "()I" } : Jvm.MethodName)) ∈ lw_all := lw_g (lw_at lw_m22 99 rfl) rfl
theorem q5618 : (Jvm.Cond.selects "KnowHouse$QlRewrite" ({ cls := "KnowHouse$QlRewrite", name := "clear", desc := "()I" } : Jvm.MethodName) ({ cls := "KnowHouse$QlRewrite", name := "clear", desc := "()I" } : Jvm.MethodName)) ∈ lw_all := lw_g (lw_at lw_m22 100 rfl) rfl
theorem q5619 : (Jvm.Cond.code ({ cls := "KnowHouse$QlRewrite", name := "clear", desc := "()I" } : Jvm.MethodName) prog_45_method_35_code (2 : Nat) (Option.some Jvm.ClassFile.FieldType.int)) ∈ lw_all := lw_g (lw_at lw_m22 101 rfl) rfl
theorem q5620 : (Jvm.Cond.methodLink "KnowHouse" (582 : Nat) ({ cls := "KnowHouse", name := "diskCall", desc := "(I)J" } : Jvm.MethodName)) ∈ lw_all := lw_g (lw_at lw_m22 102 rfl) rfl
theorem q5622 : (Jvm.Cond.instanceMethod ({ cls := "KnowHouse", name := "diskCall", desc := "(I)J" } : Jvm.MethodName)) ∈ lw_all := lw_g (lw_at lw_m22 104 rfl) rfl
theorem q5623 : (Jvm.Cond.code ({ cls := "KnowHouse", name := "diskCall", desc := "(I)J" } : Jvm.MethodName) prog_1_method_37_code (2 : Nat) (Option.some Jvm.ClassFile.FieldType.long)) ∈ lw_all := lw_g (lw_at lw_m22 105 rfl) rfl
theorem q5624 : (Jvm.Cond.methodLink "KnowHouse" (886 : Nat) ({ cls := "KnowHouse$KnowDisk", name := "cut", desc := "(II)V" } : Jvm.MethodName)) ∈ lw_all := lw_g (lw_at lw_m22 106 rfl) rfl
theorem q5625 : (Jvm.Cond.instanceMethod ({ cls := "KnowHouse$KnowDisk", name := "cut", desc := "(II)V" } : Jvm.MethodName)) ∈ lw_all := lw_g (lw_at lw_m22 107 rfl) rfl
theorem q5626 : (Jvm.Cond.selects "KnowHouse$KnowDisk" ({ cls := "KnowHouse$KnowDisk", name := "cut", desc := "(II)V" } : Jvm.MethodName) ({ cls := "KnowHouse$KnowDisk", name := "cut", desc := "(II)V" } : Jvm.MethodName)) ∈ lw_all := lw_g (lw_at lw_m22 108 rfl) rfl
theorem q5627 : (Jvm.Cond.code ({ cls := "KnowHouse$KnowDisk", name := "cut", desc := "(II)V" } : Jvm.MethodName) prog_21_method_20_code (4 : Nat) (Option.none : Option Jvm.ClassFile.FieldType)) ∈ lw_all := lw_g (lw_at lw_m22 109 rfl) rfl
theorem q5630 : (Jvm.Cond.methodLink "KnowHouse" (888 : Nat) ({ cls := "KnowHouse$KnowDisk", name := "start", desc := "()I" } : Jvm.MethodName)) ∈ lw_all := lw_g (lw_at lw_m22 112 rfl) rfl
theorem q5631 : (Jvm.Cond.instanceMethod ({ cls := "KnowHouse$KnowDisk", name := "start", desc := "()I" } : Jvm.MethodName)) ∈ lw_all := lw_g (lw_at lw_m22 113 rfl) rfl
theorem q5632 : (Jvm.Cond.selects "KnowHouse$KnowDisk" ({ cls := "KnowHouse$KnowDisk", name := "start", desc := "()I" } : Jvm.MethodName) ({ cls := "KnowHouse$KnowDisk", name := "start", desc := "()I" } : Jvm.MethodName)) ∈ lw_all := lw_g (lw_at lw_m22 114 rfl) rfl
theorem q5633 : (Jvm.Cond.code ({ cls := "KnowHouse$KnowDisk", name := "start", desc := "()I" } : Jvm.MethodName) prog_21_method_22_code (7 : Nat) (Option.some Jvm.ClassFile.FieldType.int)) ∈ lw_all := lw_g (lw_at lw_m22 115 rfl) rfl
theorem q5649 : (Jvm.Cond.methodLink "KnowHouse" (890 : Nat) ({ cls := "KnowHouse$KnowDisk", name := "poke", desc := "(III)I" } : Jvm.MethodName)) ∈ lw_all := lw_g (lw_at lw_m22 131 rfl) rfl
theorem q5650 : (Jvm.Cond.instanceMethod ({ cls := "KnowHouse$KnowDisk", name := "poke", desc := "(III)I" } : Jvm.MethodName)) ∈ lw_all := lw_g (lw_at lw_m22 132 rfl) rfl
theorem q5651 : (Jvm.Cond.selects "KnowHouse$KnowDisk" ({ cls := "KnowHouse$KnowDisk", name := "poke", desc := "(III)I" } : Jvm.MethodName) ({ cls := "KnowHouse$KnowDisk", name := "poke", desc := "(III)I" } : Jvm.MethodName)) ∈ lw_all := lw_g (lw_at lw_m22 133 rfl) rfl
theorem q5652 : (Jvm.Cond.code ({ cls := "KnowHouse$KnowDisk", name := "poke", desc := "(III)I" } : Jvm.MethodName) prog_21_method_25_code (5 : Nat) (Option.some Jvm.ClassFile.FieldType.int)) ∈ lw_all := lw_g (lw_at lw_m22 134 rfl) rfl
theorem q5657 : (Jvm.Cond.methodLink "KnowHouse" (892 : Nat) ({ cls := "KnowHouse$KnowDisk", name := "wrong", desc := "(I)I" } : Jvm.MethodName)) ∈ lw_all := lw_g (lw_at lw_m22 139 rfl) rfl
theorem q5658 : (Jvm.Cond.instanceMethod ({ cls := "KnowHouse$KnowDisk", name := "wrong", desc := "(I)I" } : Jvm.MethodName)) ∈ lw_all := lw_g (lw_at lw_m22 140 rfl) rfl
theorem q5659 : (Jvm.Cond.selects "KnowHouse$KnowDisk" ({ cls := "KnowHouse$KnowDisk", name := "wrong", desc := "(I)I" } : Jvm.MethodName) ({ cls := "KnowHouse$KnowDisk", name := "wrong", desc := "(I)I" } : Jvm.MethodName)) ∈ lw_all := lw_g (lw_at lw_m22 141 rfl) rfl
theorem q5660 : (Jvm.Cond.code ({ cls := "KnowHouse$KnowDisk", name := "wrong", desc := "(I)I" } : Jvm.MethodName) prog_21_method_26_code (5 : Nat) (Option.some Jvm.ClassFile.FieldType.int)) ∈ lw_all := lw_g (lw_at lw_m22 142 rfl) rfl
theorem q5661 : (Jvm.Cond.methodLink "KnowHouse" (894 : Nat) ({ cls := "KnowHouse$KnowDisk", name := "backup", desc := "(I)I" } : Jvm.MethodName)) ∈ lw_all := lw_g (lw_at lw_m22 143 rfl) rfl
theorem q5662 : (Jvm.Cond.instanceMethod ({ cls := "KnowHouse$KnowDisk", name := "backup", desc := "(I)I" } : Jvm.MethodName)) ∈ lw_all := lw_g (lw_at lw_m22 144 rfl) rfl
theorem q5663 : (Jvm.Cond.selects "KnowHouse$KnowDisk" ({ cls := "KnowHouse$KnowDisk", name := "backup", desc := "(I)I" } : Jvm.MethodName) ({ cls := "KnowHouse$KnowDisk", name := "backup", desc := "(I)I" } : Jvm.MethodName)) ∈ lw_all := lw_g (lw_at lw_m22 145 rfl) rfl
theorem q5664 : (Jvm.Cond.code ({ cls := "KnowHouse$KnowDisk", name := "backup", desc := "(I)I" } : Jvm.MethodName) prog_21_method_27_code (2 : Nat) (Option.some Jvm.ClassFile.FieldType.int)) ∈ lw_all := lw_g (lw_at lw_m22 146 rfl) rfl
theorem q5668 : (Jvm.Cond.methodLink "KnowHouse" (896 : Nat) ({ cls := "KnowHouse$KnowDisk", name := "drop", desc := "(I)I" } : Jvm.MethodName)) ∈ lw_all := lw_g (lw_at lw_m22 150 rfl) rfl
theorem q5669 : (Jvm.Cond.instanceMethod ({ cls := "KnowHouse$KnowDisk", name := "drop", desc := "(I)I" } : Jvm.MethodName)) ∈ lw_all := lw_g (lw_at lw_m22 151 rfl) rfl
theorem q5670 : (Jvm.Cond.selects "KnowHouse$KnowDisk" ({ cls := "KnowHouse$KnowDisk", name := "drop", desc := "(I)I" } : Jvm.MethodName) ({ cls := "KnowHouse$KnowDisk", name := "drop", desc := "(I)I" } : Jvm.MethodName)) ∈ lw_all := lw_g (lw_at lw_m22 152 rfl) rfl
theorem q5671 : (Jvm.Cond.code ({ cls := "KnowHouse$KnowDisk", name := "drop", desc := "(I)I" } : Jvm.MethodName) prog_21_method_28_code (5 : Nat) (Option.some Jvm.ClassFile.FieldType.int)) ∈ lw_all := lw_g (lw_at lw_m22 153 rfl) rfl
theorem q5675 : (Jvm.Cond.methodLink "KnowHouse" (897 : Nat) ({ cls := "KnowHouse$KnowDisk", name := "derived", desc := "(I)I" } : Jvm.MethodName)) ∈ lw_all := lw_g (lw_at lw_m22 157 rfl) rfl
theorem q5676 : (Jvm.Cond.instanceMethod ({ cls := "KnowHouse$KnowDisk", name := "derived", desc := "(I)I" } : Jvm.MethodName)) ∈ lw_all := lw_g (lw_at lw_m22 158 rfl) rfl
theorem q5677 : (Jvm.Cond.selects "KnowHouse$KnowDisk" ({ cls := "KnowHouse$KnowDisk", name := "derived", desc := "(I)I" } : Jvm.MethodName) ({ cls := "KnowHouse$KnowDisk", name := "derived", desc := "(I)I" } : Jvm.MethodName)) ∈ lw_all := lw_g (lw_at lw_m22 159 rfl) rfl
theorem q5678 : (Jvm.Cond.code ({ cls := "KnowHouse$KnowDisk", name := "derived", desc := "(I)I" } : Jvm.MethodName) prog_21_method_15_code (7 : Nat) (Option.some Jvm.ClassFile.FieldType.int)) ∈ lw_all := lw_g (lw_at lw_m22 160 rfl) rfl
theorem q5683 : (Jvm.Cond.methodLink "KnowHouse" (899 : Nat) ({ cls := "KnowHouse$KnowDisk", name := "full", desc := "(Z)Z" } : Jvm.MethodName)) ∈ lw_all := lw_g (lw_at lw_m22 165 rfl) rfl
theorem q5684 : (Jvm.Cond.instanceMethod ({ cls := "KnowHouse$KnowDisk", name := "full", desc := "(Z)Z" } : Jvm.MethodName)) ∈ lw_all := lw_g (lw_at lw_m22 166 rfl) rfl
theorem q5685 : (Jvm.Cond.selects "KnowHouse$KnowDisk" ({ cls := "KnowHouse$KnowDisk", name := "full", desc := "(Z)Z" } : Jvm.MethodName) ({ cls := "KnowHouse$KnowDisk", name := "full", desc := "(Z)Z" } : Jvm.MethodName)) ∈ lw_all := lw_g (lw_at lw_m22 167 rfl) rfl
theorem q5686 : (Jvm.Cond.code ({ cls := "KnowHouse$KnowDisk", name := "full", desc := "(Z)Z" } : Jvm.MethodName) prog_21_method_29_code (3 : Nat) (Option.some Jvm.ClassFile.FieldType.boolean)) ∈ lw_all := lw_g (lw_at lw_m22 168 rfl) rfl
theorem q9075 : (Jvm.Cond.castable "KnowHouse$Call" "java/lang/Object") ∈ lw_tbl := lw_at lw_m36 197 rfl
theorem q9117 : (Jvm.Cond.castable "java/lang/String" "java/lang/Object") ∈ lw_tbl := lw_at lw_m36 239 rfl
theorem hSHX5_begin : "KnowHouse$VersionTrans" ≠ "java/lang/invoke/MethodHandle" ∧ "KnowHouse$VersionTrans" ≠ "java/lang/invoke/VarHandle" ∧ (parseMethodDescriptor "()I").map (fun d => d.parameters.length) = some 0 := by decide +kernel
theorem hSHX31_drop : "KnowHouse$FacetCounts" ≠ "java/lang/invoke/MethodHandle" ∧ "KnowHouse$FacetCounts" ≠ "java/lang/invoke/VarHandle" ∧ (parseMethodDescriptor "(III)I").map (fun d => d.parameters.length) = some 3 := by decide +kernel
theorem hSHX35_remove : "KnowHouse$RuleEngine" ≠ "java/lang/invoke/MethodHandle" ∧ "KnowHouse$RuleEngine" ≠ "java/lang/invoke/VarHandle" ∧ (parseMethodDescriptor "(III)I").map (fun d => d.parameters.length) = some 3 := by decide +kernel
theorem hSHX31_row : "KnowHouse$FacetCounts" ≠ "java/lang/invoke/MethodHandle" ∧ "KnowHouse$FacetCounts" ≠ "java/lang/invoke/VarHandle" ∧ (parseMethodDescriptor "(III)I").map (fun d => d.parameters.length) = some 3 := by decide +kernel
theorem hSHX35_fact : "KnowHouse$RuleEngine" ≠ "java/lang/invoke/MethodHandle" ∧ "KnowHouse$RuleEngine" ≠ "java/lang/invoke/VarHandle" ∧ (parseMethodDescriptor "(III)I").map (fun d => d.parameters.length) = some 3 := by decide +kernel
theorem hSHX5_latest : "KnowHouse$VersionTrans" ≠ "java/lang/invoke/MethodHandle" ∧ "KnowHouse$VersionTrans" ≠ "java/lang/invoke/VarHandle" ∧ (parseMethodDescriptor "()I").map (fun d => d.parameters.length) = some 0 := by decide +kernel
theorem hSHX27_may : "KnowHouse$RightDesk" ≠ "java/lang/invoke/MethodHandle" ∧ "KnowHouse$RightDesk" ≠ "java/lang/invoke/VarHandle" ∧ (parseMethodDescriptor "(IIIIII)I").map (fun d => d.parameters.length) = some 6 := by decide +kernel
theorem hSHX5_put : "KnowHouse$VersionTrans" ≠ "java/lang/invoke/MethodHandle" ∧ "KnowHouse$VersionTrans" ≠ "java/lang/invoke/VarHandle" ∧ (parseMethodDescriptor "(IIZ)I").map (fun d => d.parameters.length) = some 3 := by decide +kernel
theorem hSHX5_commit : "KnowHouse$VersionTrans" ≠ "java/lang/invoke/MethodHandle" ∧ "KnowHouse$VersionTrans" ≠ "java/lang/invoke/VarHandle" ∧ (parseMethodDescriptor "(I)I").map (fun d => d.parameters.length) = some 1 := by decide +kernel
theorem hSHX5_abort : "KnowHouse$VersionTrans" ≠ "java/lang/invoke/MethodHandle" ∧ "KnowHouse$VersionTrans" ≠ "java/lang/invoke/VarHandle" ∧ (parseMethodDescriptor "(I)I").map (fun d => d.parameters.length) = some 1 := by decide +kernel
theorem hSHX5_told : "KnowHouse$VersionTrans" ≠ "java/lang/invoke/MethodHandle" ∧ "KnowHouse$VersionTrans" ≠ "java/lang/invoke/VarHandle" ∧ (parseMethodDescriptor "(II)Z").map (fun d => d.parameters.length) = some 2 := by decide +kernel
theorem hSHX1_keep : "KnowHouse$CanonNames" ≠ "java/lang/invoke/MethodHandle" ∧ "KnowHouse$CanonNames" ≠ "java/lang/invoke/VarHandle" ∧ (parseMethodDescriptor "()I").map (fun d => d.parameters.length) = some 0 := by decide +kernel
theorem hSHX1_blank : "KnowHouse$CanonNames" ≠ "java/lang/invoke/MethodHandle" ∧ "KnowHouse$CanonNames" ≠ "java/lang/invoke/VarHandle" ∧ (parseMethodDescriptor "()I").map (fun d => d.parameters.length) = some 0 := by decide +kernel
theorem hSHX1_triple : "KnowHouse$CanonNames" ≠ "java/lang/invoke/MethodHandle" ∧ "KnowHouse$CanonNames" ≠ "java/lang/invoke/VarHandle" ∧ (parseMethodDescriptor "(III)I").map (fun d => d.parameters.length) = some 3 := by decide +kernel
theorem hSHX1_name : "KnowHouse$CanonNames" ≠ "java/lang/invoke/MethodHandle" ∧ "KnowHouse$CanonNames" ≠ "java/lang/invoke/VarHandle" ∧ (parseMethodDescriptor "(J)I").map (fun d => d.parameters.length) = some 1 := by decide +kernel
theorem hSHX1_isomorphic : "KnowHouse$CanonNames" ≠ "java/lang/invoke/MethodHandle" ∧ "KnowHouse$CanonNames" ≠ "java/lang/invoke/VarHandle" ∧ (parseMethodDescriptor "(I)I").map (fun d => d.parameters.length) = some 1 := by decide +kernel
theorem hSHX29_axiom : "KnowHouse$ClassifySort" ≠ "java/lang/invoke/MethodHandle" ∧ "KnowHouse$ClassifySort" ≠ "java/lang/invoke/VarHandle" ∧ (parseMethodDescriptor "(III)I").map (fun d => d.parameters.length) = some 3 := by decide +kernel
theorem hSHX31_above : "KnowHouse$FacetCounts" ≠ "java/lang/invoke/MethodHandle" ∧ "KnowHouse$FacetCounts" ≠ "java/lang/invoke/VarHandle" ∧ (parseMethodDescriptor "(II)I").map (fun d => d.parameters.length) = some 2 := by decide +kernel
theorem hSHX40_axiom : "KnowHouse$QlRewrite" ≠ "java/lang/invoke/MethodHandle" ∧ "KnowHouse$QlRewrite" ≠ "java/lang/invoke/VarHandle" ∧ (parseMethodDescriptor "(III)I").map (fun d => d.parameters.length) = some 3 := by decide +kernel
theorem hSHX29_put : "KnowHouse$ClassifySort" ≠ "java/lang/invoke/MethodHandle" ∧ "KnowHouse$ClassifySort" ≠ "java/lang/invoke/VarHandle" ∧ (parseMethodDescriptor "(II)I").map (fun d => d.parameters.length) = some 2 := by decide +kernel
theorem hSHX40_fact : "KnowHouse$QlRewrite" ≠ "java/lang/invoke/MethodHandle" ∧ "KnowHouse$QlRewrite" ≠ "java/lang/invoke/VarHandle" ∧ (parseMethodDescriptor "(ZIII)I").map (fun d => d.parameters.length) = some 4 := by decide +kernel
theorem hSHX29_run : "KnowHouse$ClassifySort" ≠ "java/lang/invoke/MethodHandle" ∧ "KnowHouse$ClassifySort" ≠ "java/lang/invoke/VarHandle" ∧ (parseMethodDescriptor "()I").map (fun d => d.parameters.length) = some 0 := by decide +kernel
theorem hSHX29_count : "KnowHouse$ClassifySort" ≠ "java/lang/invoke/MethodHandle" ∧ "KnowHouse$ClassifySort" ≠ "java/lang/invoke/VarHandle" ∧ (parseMethodDescriptor "(I)I").map (fun d => d.parameters.length) = some 1 := by decide +kernel
theorem hSHX29_parent : "KnowHouse$ClassifySort" ≠ "java/lang/invoke/MethodHandle" ∧ "KnowHouse$ClassifySort" ≠ "java/lang/invoke/VarHandle" ∧ (parseMethodDescriptor "(II)I").map (fun d => d.parameters.length) = some 2 := by decide +kernel
theorem hSHX32_run : "KnowHouse$VirtualRewrite" ≠ "java/lang/invoke/MethodHandle" ∧ "KnowHouse$VirtualRewrite" ≠ "java/lang/invoke/VarHandle" ∧ (parseMethodDescriptor "()I").map (fun d => d.parameters.length) = some 0 := by decide +kernel
theorem hSHX32_value : "KnowHouse$VirtualRewrite" ≠ "java/lang/invoke/MethodHandle" ∧ "KnowHouse$VirtualRewrite" ≠ "java/lang/invoke/VarHandle" ∧ (parseMethodDescriptor "(II)I").map (fun d => d.parameters.length) = some 2 := by decide +kernel
theorem hSHX31_kept : "KnowHouse$FacetCounts" ≠ "java/lang/invoke/MethodHandle" ∧ "KnowHouse$FacetCounts" ≠ "java/lang/invoke/VarHandle" ∧ (parseMethodDescriptor "()I").map (fun d => d.parameters.length) = some 0 := by decide +kernel
theorem hSHX1_triples : "KnowHouse$CanonNames" ≠ "java/lang/invoke/MethodHandle" ∧ "KnowHouse$CanonNames" ≠ "java/lang/invoke/VarHandle" ∧ (parseMethodDescriptor "()I").map (fun d => d.parameters.length) = some 0 := by decide +kernel
theorem hSHX42_page : "KnowHouse$KnowDisk" ≠ "java/lang/invoke/MethodHandle" ∧ "KnowHouse$KnowDisk" ≠ "java/lang/invoke/VarHandle" ∧ (parseMethodDescriptor "(IIJ)I").map (fun d => d.parameters.length) = some 3 := by decide +kernel
theorem hSHX42_commit : "KnowHouse$KnowDisk" ≠ "java/lang/invoke/MethodHandle" ∧ "KnowHouse$KnowDisk" ≠ "java/lang/invoke/VarHandle" ∧ (parseMethodDescriptor "(I)I").map (fun d => d.parameters.length) = some 1 := by decide +kernel
theorem hSHX42_sync : "KnowHouse$KnowDisk" ≠ "java/lang/invoke/MethodHandle" ∧ "KnowHouse$KnowDisk" ≠ "java/lang/invoke/VarHandle" ∧ (parseMethodDescriptor "()I").map (fun d => d.parameters.length) = some 0 := by decide +kernel
theorem hSHX35_holds : "KnowHouse$RuleEngine" ≠ "java/lang/invoke/MethodHandle" ∧ "KnowHouse$RuleEngine" ≠ "java/lang/invoke/VarHandle" ∧ (parseMethodDescriptor "(III)I").map (fun d => d.parameters.length) = some 3 := by decide +kernel
theorem hSHX1_drop : "KnowHouse$CanonNames" ≠ "java/lang/invoke/MethodHandle" ∧ "KnowHouse$CanonNames" ≠ "java/lang/invoke/VarHandle" ∧ (parseMethodDescriptor "(III)I").map (fun d => d.parameters.length) = some 3 := by decide +kernel
theorem hSHX1_named : "KnowHouse$CanonNames" ≠ "java/lang/invoke/MethodHandle" ∧ "KnowHouse$CanonNames" ≠ "java/lang/invoke/VarHandle" ∧ (parseMethodDescriptor "(I)I").map (fun d => d.parameters.length) = some 1 := by decide +kernel
theorem hSHX1_form : "KnowHouse$CanonNames" ≠ "java/lang/invoke/MethodHandle" ∧ "KnowHouse$CanonNames" ≠ "java/lang/invoke/VarHandle" ∧ (parseMethodDescriptor "(II)I").map (fun d => d.parameters.length) = some 2 := by decide +kernel
theorem hSHX1_hash : "KnowHouse$CanonNames" ≠ "java/lang/invoke/MethodHandle" ∧ "KnowHouse$CanonNames" ≠ "java/lang/invoke/VarHandle" ∧ (parseMethodDescriptor "(II)I").map (fun d => d.parameters.length) = some 2 := by decide +kernel
theorem hSHX1_rounds : "KnowHouse$CanonNames" ≠ "java/lang/invoke/MethodHandle" ∧ "KnowHouse$CanonNames" ≠ "java/lang/invoke/VarHandle" ∧ (parseMethodDescriptor "()I").map (fun d => d.parameters.length) = some 0 := by decide +kernel
theorem hSHX1_first : "KnowHouse$CanonNames" ≠ "java/lang/invoke/MethodHandle" ∧ "KnowHouse$CanonNames" ≠ "java/lang/invoke/VarHandle" ∧ (parseMethodDescriptor "(II)I").map (fun d => d.parameters.length) = some 2 := by decide +kernel
theorem hSHX1_ways : "KnowHouse$CanonNames" ≠ "java/lang/invoke/MethodHandle" ∧ "KnowHouse$CanonNames" ≠ "java/lang/invoke/VarHandle" ∧ (parseMethodDescriptor "(I)I").map (fun d => d.parameters.length) = some 1 := by decide +kernel
theorem hSHX1_equal : "KnowHouse$CanonNames" ≠ "java/lang/invoke/MethodHandle" ∧ "KnowHouse$CanonNames" ≠ "java/lang/invoke/VarHandle" ∧ (parseMethodDescriptor "(I)I").map (fun d => d.parameters.length) = some 1 := by decide +kernel
theorem hSHX1_blanks : "KnowHouse$CanonNames" ≠ "java/lang/invoke/MethodHandle" ∧ "KnowHouse$CanonNames" ≠ "java/lang/invoke/VarHandle" ∧ (parseMethodDescriptor "()I").map (fun d => d.parameters.length) = some 0 := by decide +kernel
theorem hSHX5_look : "KnowHouse$VersionTrans" ≠ "java/lang/invoke/MethodHandle" ∧ "KnowHouse$VersionTrans" ≠ "java/lang/invoke/VarHandle" ∧ (parseMethodDescriptor "(I)I").map (fun d => d.parameters.length) = some 1 := by decide +kernel
theorem hSHX5_note : "KnowHouse$VersionTrans" ≠ "java/lang/invoke/MethodHandle" ∧ "KnowHouse$VersionTrans" ≠ "java/lang/invoke/VarHandle" ∧ (parseMethodDescriptor "(II)I").map (fun d => d.parameters.length) = some 2 := by decide +kernel
theorem hSHX5_read : "KnowHouse$VersionTrans" ≠ "java/lang/invoke/MethodHandle" ∧ "KnowHouse$VersionTrans" ≠ "java/lang/invoke/VarHandle" ∧ (parseMethodDescriptor "(II)Z").map (fun d => d.parameters.length) = some 2 := by decide +kernel
theorem hSHX5_pin : "KnowHouse$VersionTrans" ≠ "java/lang/invoke/MethodHandle" ∧ "KnowHouse$VersionTrans" ≠ "java/lang/invoke/VarHandle" ∧ (parseMethodDescriptor "(I)I").map (fun d => d.parameters.length) = some 1 := by decide +kernel
theorem hSHX5_unpin : "KnowHouse$VersionTrans" ≠ "java/lang/invoke/MethodHandle" ∧ "KnowHouse$VersionTrans" ≠ "java/lang/invoke/VarHandle" ∧ (parseMethodDescriptor "(I)I").map (fun d => d.parameters.length) = some 1 := by decide +kernel
theorem hSHX5_free : "KnowHouse$VersionTrans" ≠ "java/lang/invoke/MethodHandle" ∧ "KnowHouse$VersionTrans" ≠ "java/lang/invoke/VarHandle" ∧ (parseMethodDescriptor "()I").map (fun d => d.parameters.length) = some 0 := by decide +kernel
theorem hSHX5_rows : "KnowHouse$VersionTrans" ≠ "java/lang/invoke/MethodHandle" ∧ "KnowHouse$VersionTrans" ≠ "java/lang/invoke/VarHandle" ∧ (parseMethodDescriptor "()I").map (fun d => d.parameters.length) = some 0 := by decide +kernel
theorem hSHX5_least : "KnowHouse$VersionTrans" ≠ "java/lang/invoke/MethodHandle" ∧ "KnowHouse$VersionTrans" ≠ "java/lang/invoke/VarHandle" ∧ (parseMethodDescriptor "()I").map (fun d => d.parameters.length) = some 0 := by decide +kernel
theorem hSHX5_state : "KnowHouse$VersionTrans" ≠ "java/lang/invoke/MethodHandle" ∧ "KnowHouse$VersionTrans" ≠ "java/lang/invoke/VarHandle" ∧ (parseMethodDescriptor "(I)I").map (fun d => d.parameters.length) = some 1 := by decide +kernel
theorem hSHX5_waits : "KnowHouse$VersionTrans" ≠ "java/lang/invoke/MethodHandle" ∧ "KnowHouse$VersionTrans" ≠ "java/lang/invoke/VarHandle" ∧ (parseMethodDescriptor "(I)I").map (fun d => d.parameters.length) = some 1 := by decide +kernel
theorem hSHX5_ring : "KnowHouse$VersionTrans" ≠ "java/lang/invoke/MethodHandle" ∧ "KnowHouse$VersionTrans" ≠ "java/lang/invoke/VarHandle" ∧ (parseMethodDescriptor "(I)I").map (fun d => d.parameters.length) = some 1 := by decide +kernel
theorem hSHX5_conflicts : "KnowHouse$VersionTrans" ≠ "java/lang/invoke/MethodHandle" ∧ "KnowHouse$VersionTrans" ≠ "java/lang/invoke/VarHandle" ∧ (parseMethodDescriptor "(II)I").map (fun d => d.parameters.length) = some 2 := by decide +kernel
theorem hSHX6_type : "KnowHouse$DatatypeValues" ≠ "java/lang/invoke/MethodHandle" ∧ "KnowHouse$DatatypeValues" ≠ "java/lang/invoke/VarHandle" ∧ (parseMethodDescriptor "(JI)I").map (fun d => d.parameters.length) = some 2 := by decide +kernel
theorem hSHX6_read : "KnowHouse$DatatypeValues" ≠ "java/lang/invoke/MethodHandle" ∧ "KnowHouse$DatatypeValues" ≠ "java/lang/invoke/VarHandle" ∧ (parseMethodDescriptor "(I)I").map (fun d => d.parameters.length) = some 1 := by decide +kernel
theorem hSHX6_values : "KnowHouse$DatatypeValues" ≠ "java/lang/invoke/MethodHandle" ∧ "KnowHouse$DatatypeValues" ≠ "java/lang/invoke/VarHandle" ∧ (parseMethodDescriptor "()I").map (fun d => d.parameters.length) = some 0 := by decide +kernel
theorem hSHX6_kind : "KnowHouse$DatatypeValues" ≠ "java/lang/invoke/MethodHandle" ∧ "KnowHouse$DatatypeValues" ≠ "java/lang/invoke/VarHandle" ∧ (parseMethodDescriptor "(I)I").map (fun d => d.parameters.length) = some 1 := by decide +kernel
theorem hSHX6_compare : "KnowHouse$DatatypeValues" ≠ "java/lang/invoke/MethodHandle" ∧ "KnowHouse$DatatypeValues" ≠ "java/lang/invoke/VarHandle" ∧ (parseMethodDescriptor "(II)I").map (fun d => d.parameters.length) = some 2 := by decide +kernel
theorem hSHX6_part : "KnowHouse$DatatypeValues" ≠ "java/lang/invoke/MethodHandle" ∧ "KnowHouse$DatatypeValues" ≠ "java/lang/invoke/VarHandle" ∧ (parseMethodDescriptor "(II)J").map (fun d => d.parameters.length) = some 2 := by decide +kernel
theorem hSHX6_byteOf : "KnowHouse$DatatypeValues" ≠ "java/lang/invoke/MethodHandle" ∧ "KnowHouse$DatatypeValues" ≠ "java/lang/invoke/VarHandle" ∧ (parseMethodDescriptor "(II)I").map (fun d => d.parameters.length) = some 2 := by decide +kernel
theorem hSHX6_tell : "KnowHouse$DatatypeValues" ≠ "java/lang/invoke/MethodHandle" ∧ "KnowHouse$DatatypeValues" ≠ "java/lang/invoke/VarHandle" ∧ (parseMethodDescriptor "(I)I").map (fun d => d.parameters.length) = some 1 := by decide +kernel
theorem hSHX6_told : "KnowHouse$DatatypeValues" ≠ "java/lang/invoke/MethodHandle" ∧ "KnowHouse$DatatypeValues" ≠ "java/lang/invoke/VarHandle" ∧ (parseMethodDescriptor "(I)I").map (fun d => d.parameters.length) = some 1 := by decide +kernel
theorem hSHX6_apply : "KnowHouse$DatatypeValues" ≠ "java/lang/invoke/MethodHandle" ∧ "KnowHouse$DatatypeValues" ≠ "java/lang/invoke/VarHandle" ∧ (parseMethodDescriptor "(III)I").map (fun d => d.parameters.length) = some 3 := by decide +kernel
theorem hSHX8_axiom : "KnowHouse$ProofChecker" ≠ "java/lang/invoke/MethodHandle" ∧ "KnowHouse$ProofChecker" ≠ "java/lang/invoke/VarHandle" ∧ (parseMethodDescriptor "(III)I").map (fun d => d.parameters.length) = some 3 := by decide +kernel
theorem hSHX8_triple : "KnowHouse$ProofChecker" ≠ "java/lang/invoke/MethodHandle" ∧ "KnowHouse$ProofChecker" ≠ "java/lang/invoke/VarHandle" ∧ (parseMethodDescriptor "(III)I").map (fun d => d.parameters.length) = some 3 := by decide +kernel
theorem hSHX8_row : "KnowHouse$ProofChecker" ≠ "java/lang/invoke/MethodHandle" ∧ "KnowHouse$ProofChecker" ≠ "java/lang/invoke/VarHandle" ∧ (parseMethodDescriptor "(III)I").map (fun d => d.parameters.length) = some 3 := by decide +kernel
theorem hSHX8_premise : "KnowHouse$ProofChecker" ≠ "java/lang/invoke/MethodHandle" ∧ "KnowHouse$ProofChecker" ≠ "java/lang/invoke/VarHandle" ∧ (parseMethodDescriptor "(II)I").map (fun d => d.parameters.length) = some 2 := by decide +kernel
theorem hSHX8_check : "KnowHouse$ProofChecker" ≠ "java/lang/invoke/MethodHandle" ∧ "KnowHouse$ProofChecker" ≠ "java/lang/invoke/VarHandle" ∧ (parseMethodDescriptor "(I)I").map (fun d => d.parameters.length) = some 1 := by decide +kernel
theorem hSHX8_broken : "KnowHouse$ProofChecker" ≠ "java/lang/invoke/MethodHandle" ∧ "KnowHouse$ProofChecker" ≠ "java/lang/invoke/VarHandle" ∧ (parseMethodDescriptor "()I").map (fun d => d.parameters.length) = some 0 := by decide +kernel
theorem hSHX8_rows : "KnowHouse$ProofChecker" ≠ "java/lang/invoke/MethodHandle" ∧ "KnowHouse$ProofChecker" ≠ "java/lang/invoke/VarHandle" ∧ (parseMethodDescriptor "(I)I").map (fun d => d.parameters.length) = some 1 := by decide +kernel
theorem hSHX8_size : "KnowHouse$ProofChecker" ≠ "java/lang/invoke/MethodHandle" ∧ "KnowHouse$ProofChecker" ≠ "java/lang/invoke/VarHandle" ∧ (parseMethodDescriptor "(I)I").map (fun d => d.parameters.length) = some 1 := by decide +kernel
theorem hSHX8_drop : "KnowHouse$ProofChecker" ≠ "java/lang/invoke/MethodHandle" ∧ "KnowHouse$ProofChecker" ≠ "java/lang/invoke/VarHandle" ∧ (parseMethodDescriptor "(I)I").map (fun d => d.parameters.length) = some 1 := by decide +kernel
theorem hSHX8_name : "KnowHouse$ProofChecker" ≠ "java/lang/invoke/MethodHandle" ∧ "KnowHouse$ProofChecker" ≠ "java/lang/invoke/VarHandle" ∧ (parseMethodDescriptor "(I)I").map (fun d => d.parameters.length) = some 1 := by decide +kernel
theorem hSHX8_states : "KnowHouse$ProofChecker" ≠ "java/lang/invoke/MethodHandle" ∧ "KnowHouse$ProofChecker" ≠ "java/lang/invoke/VarHandle" ∧ (parseMethodDescriptor "(II)I").map (fun d => d.parameters.length) = some 2 := by decide +kernel
theorem hSHX8_sentence : "KnowHouse$ProofChecker" ≠ "java/lang/invoke/MethodHandle" ∧ "KnowHouse$ProofChecker" ≠ "java/lang/invoke/VarHandle" ∧ (parseMethodDescriptor "(I)I").map (fun d => d.parameters.length) = some 1 := by decide +kernel
theorem hSHX8_at : "KnowHouse$ProofChecker" ≠ "java/lang/invoke/MethodHandle" ∧ "KnowHouse$ProofChecker" ≠ "java/lang/invoke/VarHandle" ∧ (parseMethodDescriptor "(I)I").map (fun d => d.parameters.length) = some 1 := by decide +kernel
theorem hSHX8_concludes : "KnowHouse$ProofChecker" ≠ "java/lang/invoke/MethodHandle" ∧ "KnowHouse$ProofChecker" ≠ "java/lang/invoke/VarHandle" ∧ (parseMethodDescriptor "(II)Z").map (fun d => d.parameters.length) = some 2 := by decide +kernel
theorem hSHX27_member : "KnowHouse$RightDesk" ≠ "java/lang/invoke/MethodHandle" ∧ "KnowHouse$RightDesk" ≠ "java/lang/invoke/VarHandle" ∧ (parseMethodDescriptor "(IIZ)I").map (fun d => d.parameters.length) = some 3 := by decide +kernel
theorem hSHX27_condition : "KnowHouse$RightDesk" ≠ "java/lang/invoke/MethodHandle" ∧ "KnowHouse$RightDesk" ≠ "java/lang/invoke/VarHandle" ∧ (parseMethodDescriptor "(IIII)I").map (fun d => d.parameters.length) = some 4 := by decide +kernel
theorem hSHX27_rule : "KnowHouse$RightDesk" ≠ "java/lang/invoke/MethodHandle" ∧ "KnowHouse$RightDesk" ≠ "java/lang/invoke/VarHandle" ∧ (parseMethodDescriptor "(IZI)I").map (fun d => d.parameters.length) = some 3 := by decide +kernel
theorem hSHX27_drop : "KnowHouse$RightDesk" ≠ "java/lang/invoke/MethodHandle" ∧ "KnowHouse$RightDesk" ≠ "java/lang/invoke/VarHandle" ∧ (parseMethodDescriptor "(I)I").map (fun d => d.parameters.length) = some 1 := by decide +kernel
theorem hSHX27_asks : "KnowHouse$RightDesk" ≠ "java/lang/invoke/MethodHandle" ∧ "KnowHouse$RightDesk" ≠ "java/lang/invoke/VarHandle" ∧ (parseMethodDescriptor "(I)I").map (fun d => d.parameters.length) = some 1 := by decide +kernel
theorem hSHX27_ask : "KnowHouse$RightDesk" ≠ "java/lang/invoke/MethodHandle" ∧ "KnowHouse$RightDesk" ≠ "java/lang/invoke/VarHandle" ∧ (parseMethodDescriptor "(II)I").map (fun d => d.parameters.length) = some 2 := by decide +kernel
theorem hSHX27_within : "KnowHouse$RightDesk" ≠ "java/lang/invoke/MethodHandle" ∧ "KnowHouse$RightDesk" ≠ "java/lang/invoke/VarHandle" ∧ (parseMethodDescriptor "(II)I").map (fun d => d.parameters.length) = some 2 := by decide +kernel
theorem hSHX27_decides : "KnowHouse$RightDesk" ≠ "java/lang/invoke/MethodHandle" ∧ "KnowHouse$RightDesk" ≠ "java/lang/invoke/VarHandle" ∧ (parseMethodDescriptor "(I)I").map (fun d => d.parameters.length) = some 1 := by decide +kernel
theorem hSHX27_sees : "KnowHouse$RightDesk" ≠ "java/lang/invoke/MethodHandle" ∧ "KnowHouse$RightDesk" ≠ "java/lang/invoke/VarHandle" ∧ (parseMethodDescriptor "(II)I").map (fun d => d.parameters.length) = some 2 := by decide +kernel
theorem hSHX27_matters : "KnowHouse$RightDesk" ≠ "java/lang/invoke/MethodHandle" ∧ "KnowHouse$RightDesk" ≠ "java/lang/invoke/VarHandle" ∧ (parseMethodDescriptor "(I)I").map (fun d => d.parameters.length) = some 1 := by decide +kernel
theorem hSHX27_idle : "KnowHouse$RightDesk" ≠ "java/lang/invoke/MethodHandle" ∧ "KnowHouse$RightDesk" ≠ "java/lang/invoke/VarHandle" ∧ (parseMethodDescriptor "(ZI)I").map (fun d => d.parameters.length) = some 2 := by decide +kernel
theorem hSHX27_apart : "KnowHouse$RightDesk" ≠ "java/lang/invoke/MethodHandle" ∧ "KnowHouse$RightDesk" ≠ "java/lang/invoke/VarHandle" ∧ (parseMethodDescriptor "(II)I").map (fun d => d.parameters.length) = some 2 := by decide +kernel
theorem hSHX27_allowed : "KnowHouse$RightDesk" ≠ "java/lang/invoke/MethodHandle" ∧ "KnowHouse$RightDesk" ≠ "java/lang/invoke/VarHandle" ∧ (parseMethodDescriptor "()I").map (fun d => d.parameters.length) = some 0 := by decide +kernel
theorem hSHX27_conditions : "KnowHouse$RightDesk" ≠ "java/lang/invoke/MethodHandle" ∧ "KnowHouse$RightDesk" ≠ "java/lang/invoke/VarHandle" ∧ (parseMethodDescriptor "()I").map (fun d => d.parameters.length) = some 0 := by decide +kernel
theorem hSHX27_rules : "KnowHouse$RightDesk" ≠ "java/lang/invoke/MethodHandle" ∧ "KnowHouse$RightDesk" ≠ "java/lang/invoke/VarHandle" ∧ (parseMethodDescriptor "()I").map (fun d => d.parameters.length) = some 0 := by decide +kernel
theorem hSHX29_class0 : "KnowHouse$ClassifySort" ≠ "java/lang/invoke/MethodHandle" ∧ "KnowHouse$ClassifySort" ≠ "java/lang/invoke/VarHandle" ∧ (parseMethodDescriptor "()I").map (fun d => d.parameters.length) = some 0 := by decide +kernel
theorem hSHX29_thing : "KnowHouse$ClassifySort" ≠ "java/lang/invoke/MethodHandle" ∧ "KnowHouse$ClassifySort" ≠ "java/lang/invoke/VarHandle" ∧ (parseMethodDescriptor "()I").map (fun d => d.parameters.length) = some 0 := by decide +kernel
theorem hSHX29_remove : "KnowHouse$ClassifySort" ≠ "java/lang/invoke/MethodHandle" ∧ "KnowHouse$ClassifySort" ≠ "java/lang/invoke/VarHandle" ∧ (parseMethodDescriptor "(I)I").map (fun d => d.parameters.length) = some 1 := by decide +kernel
theorem hSHX29_fuel : "KnowHouse$ClassifySort" ≠ "java/lang/invoke/MethodHandle" ∧ "KnowHouse$ClassifySort" ≠ "java/lang/invoke/VarHandle" ∧ (parseMethodDescriptor "(I)I").map (fun d => d.parameters.length) = some 1 := by decide +kernel
theorem hSHX29_known : "KnowHouse$ClassifySort" ≠ "java/lang/invoke/MethodHandle" ∧ "KnowHouse$ClassifySort" ≠ "java/lang/invoke/VarHandle" ∧ (parseMethodDescriptor "(II)I").map (fun d => d.parameters.length) = some 2 := by decide +kernel
theorem hSHX29_ask : "KnowHouse$ClassifySort" ≠ "java/lang/invoke/MethodHandle" ∧ "KnowHouse$ClassifySort" ≠ "java/lang/invoke/VarHandle" ∧ (parseMethodDescriptor "(II)I").map (fun d => d.parameters.length) = some 2 := by decide +kernel
theorem hSHX29_child : "KnowHouse$ClassifySort" ≠ "java/lang/invoke/MethodHandle" ∧ "KnowHouse$ClassifySort" ≠ "java/lang/invoke/VarHandle" ∧ (parseMethodDescriptor "(II)I").map (fun d => d.parameters.length) = some 2 := by decide +kernel
theorem hSHX29_equal : "KnowHouse$ClassifySort" ≠ "java/lang/invoke/MethodHandle" ∧ "KnowHouse$ClassifySort" ≠ "java/lang/invoke/VarHandle" ∧ (parseMethodDescriptor "(II)I").map (fun d => d.parameters.length) = some 2 := by decide +kernel
theorem hSHX29_empty : "KnowHouse$ClassifySort" ≠ "java/lang/invoke/MethodHandle" ∧ "KnowHouse$ClassifySort" ≠ "java/lang/invoke/VarHandle" ∧ (parseMethodDescriptor "(I)I").map (fun d => d.parameters.length) = some 1 := by decide +kernel
theorem hSHX29_open : "KnowHouse$ClassifySort" ≠ "java/lang/invoke/MethodHandle" ∧ "KnowHouse$ClassifySort" ≠ "java/lang/invoke/VarHandle" ∧ (parseMethodDescriptor "(I)I").map (fun d => d.parameters.length) = some 1 := by decide +kernel
theorem hSHX29_type : "KnowHouse$ClassifySort" ≠ "java/lang/invoke/MethodHandle" ∧ "KnowHouse$ClassifySort" ≠ "java/lang/invoke/VarHandle" ∧ (parseMethodDescriptor "(II)I").map (fun d => d.parameters.length) = some 2 := by decide +kernel
theorem hSHX29_trace : "KnowHouse$ClassifySort" ≠ "java/lang/invoke/MethodHandle" ∧ "KnowHouse$ClassifySort" ≠ "java/lang/invoke/VarHandle" ∧ (parseMethodDescriptor "(III)I").map (fun d => d.parameters.length) = some 3 := by decide +kernel
theorem hSHX31_choose : "KnowHouse$FacetCounts" ≠ "java/lang/invoke/MethodHandle" ∧ "KnowHouse$FacetCounts" ≠ "java/lang/invoke/VarHandle" ∧ (parseMethodDescriptor "(IIZ)I").map (fun d => d.parameters.length) = some 3 := by decide +kernel
theorem hSHX31_isKept : "KnowHouse$FacetCounts" ≠ "java/lang/invoke/MethodHandle" ∧ "KnowHouse$FacetCounts" ≠ "java/lang/invoke/VarHandle" ∧ (parseMethodDescriptor "(I)I").map (fun d => d.parameters.length) = some 1 := by decide +kernel
theorem hSHX31_facet : "KnowHouse$FacetCounts" ≠ "java/lang/invoke/MethodHandle" ∧ "KnowHouse$FacetCounts" ≠ "java/lang/invoke/VarHandle" ∧ (parseMethodDescriptor "(II)I").map (fun d => d.parameters.length) = some 2 := by decide +kernel
theorem hSHX31_top : "KnowHouse$FacetCounts" ≠ "java/lang/invoke/MethodHandle" ∧ "KnowHouse$FacetCounts" ≠ "java/lang/invoke/VarHandle" ∧ (parseMethodDescriptor "(II)I").map (fun d => d.parameters.length) = some 2 := by decide +kernel
theorem hSHX31_range : "KnowHouse$FacetCounts" ≠ "java/lang/invoke/MethodHandle" ∧ "KnowHouse$FacetCounts" ≠ "java/lang/invoke/VarHandle" ∧ (parseMethodDescriptor "(III)I").map (fun d => d.parameters.length) = some 3 := by decide +kernel
theorem hSHX31_sum : "KnowHouse$FacetCounts" ≠ "java/lang/invoke/MethodHandle" ∧ "KnowHouse$FacetCounts" ≠ "java/lang/invoke/VarHandle" ∧ (parseMethodDescriptor "(III)I").map (fun d => d.parameters.length) = some 3 := by decide +kernel
theorem hSHX31_changed : "KnowHouse$FacetCounts" ≠ "java/lang/invoke/MethodHandle" ∧ "KnowHouse$FacetCounts" ≠ "java/lang/invoke/VarHandle" ∧ (parseMethodDescriptor "()I").map (fun d => d.parameters.length) = some 0 := by decide +kernel
theorem hSHX31_rows : "KnowHouse$FacetCounts" ≠ "java/lang/invoke/MethodHandle" ∧ "KnowHouse$FacetCounts" ≠ "java/lang/invoke/VarHandle" ∧ (parseMethodDescriptor "()I").map (fun d => d.parameters.length) = some 0 := by decide +kernel
theorem hSHX32_key : "KnowHouse$VirtualRewrite" ≠ "java/lang/invoke/MethodHandle" ∧ "KnowHouse$VirtualRewrite" ≠ "java/lang/invoke/VarHandle" ∧ (parseMethodDescriptor "(IIZ)I").map (fun d => d.parameters.length) = some 3 := by decide +kernel
theorem hSHX32_row : "KnowHouse$VirtualRewrite" ≠ "java/lang/invoke/MethodHandle" ∧ "KnowHouse$VirtualRewrite" ≠ "java/lang/invoke/VarHandle" ∧ (parseMethodDescriptor "(IIII)I").map (fun d => d.parameters.length) = some 4 := by decide +kernel
theorem hSHX32_drop : "KnowHouse$VirtualRewrite" ≠ "java/lang/invoke/MethodHandle" ∧ "KnowHouse$VirtualRewrite" ≠ "java/lang/invoke/VarHandle" ∧ (parseMethodDescriptor "(II)I").map (fun d => d.parameters.length) = some 2 := by decide +kernel
theorem hSHX32_mapping : "KnowHouse$VirtualRewrite" ≠ "java/lang/invoke/MethodHandle" ∧ "KnowHouse$VirtualRewrite" ≠ "java/lang/invoke/VarHandle" ∧ (parseMethodDescriptor "(IIIIII)I").map (fun d => d.parameters.length) = some 6 := by decide +kernel
theorem hSHX32_triples : "KnowHouse$VirtualRewrite" ≠ "java/lang/invoke/MethodHandle" ∧ "KnowHouse$VirtualRewrite" ≠ "java/lang/invoke/VarHandle" ∧ (parseMethodDescriptor "()I").map (fun d => d.parameters.length) = some 0 := by decide +kernel
theorem hSHX32_atom : "KnowHouse$VirtualRewrite" ≠ "java/lang/invoke/MethodHandle" ∧ "KnowHouse$VirtualRewrite" ≠ "java/lang/invoke/VarHandle" ∧ (parseMethodDescriptor "(III)I").map (fun d => d.parameters.length) = some 3 := by decide +kernel
theorem hSHX32_span : "KnowHouse$VirtualRewrite" ≠ "java/lang/invoke/MethodHandle" ∧ "KnowHouse$VirtualRewrite" ≠ "java/lang/invoke/VarHandle" ∧ (parseMethodDescriptor "(III)I").map (fun d => d.parameters.length) = some 3 := by decide +kernel
theorem hSHX32_clear : "KnowHouse$VirtualRewrite" ≠ "java/lang/invoke/MethodHandle" ∧ "KnowHouse$VirtualRewrite" ≠ "java/lang/invoke/VarHandle" ∧ (parseMethodDescriptor "()I").map (fun d => d.parameters.length) = some 0 := by decide +kernel
theorem hSHX32_unions : "KnowHouse$VirtualRewrite" ≠ "java/lang/invoke/MethodHandle" ∧ "KnowHouse$VirtualRewrite" ≠ "java/lang/invoke/VarHandle" ∧ (parseMethodDescriptor "()I").map (fun d => d.parameters.length) = some 0 := by decide +kernel
theorem hSHX32_union : "KnowHouse$VirtualRewrite" ≠ "java/lang/invoke/MethodHandle" ∧ "KnowHouse$VirtualRewrite" ≠ "java/lang/invoke/VarHandle" ∧ (parseMethodDescriptor "(II)I").map (fun d => d.parameters.length) = some 2 := by decide +kernel
theorem hSHX32_estimate : "KnowHouse$VirtualRewrite" ≠ "java/lang/invoke/MethodHandle" ∧ "KnowHouse$VirtualRewrite" ≠ "java/lang/invoke/VarHandle" ∧ (parseMethodDescriptor "(I)I").map (fun d => d.parameters.length) = some 1 := by decide +kernel
theorem hSHX32_found : "KnowHouse$VirtualRewrite" ≠ "java/lang/invoke/MethodHandle" ∧ "KnowHouse$VirtualRewrite" ≠ "java/lang/invoke/VarHandle" ∧ (parseMethodDescriptor "(II)I").map (fun d => d.parameters.length) = some 2 := by decide +kernel
theorem hSHX35_rule : "KnowHouse$RuleEngine" ≠ "java/lang/invoke/MethodHandle" ∧ "KnowHouse$RuleEngine" ≠ "java/lang/invoke/VarHandle" ∧ (parseMethodDescriptor "(III)I").map (fun d => d.parameters.length) = some 3 := by decide +kernel
theorem hSHX35_body : "KnowHouse$RuleEngine" ≠ "java/lang/invoke/MethodHandle" ∧ "KnowHouse$RuleEngine" ≠ "java/lang/invoke/VarHandle" ∧ (parseMethodDescriptor "(IIIIZ)I").map (fun d => d.parameters.length) = some 5 := by decide +kernel
theorem hSHX35_filter : "KnowHouse$RuleEngine" ≠ "java/lang/invoke/MethodHandle" ∧ "KnowHouse$RuleEngine" ≠ "java/lang/invoke/VarHandle" ∧ (parseMethodDescriptor "(IIII)I").map (fun d => d.parameters.length) = some 4 := by decide +kernel
theorem hSHX35_aggregate : "KnowHouse$RuleEngine" ≠ "java/lang/invoke/MethodHandle" ∧ "KnowHouse$RuleEngine" ≠ "java/lang/invoke/VarHandle" ∧ (parseMethodDescriptor "(III)I").map (fun d => d.parameters.length) = some 3 := by decide +kernel
theorem hSHX35_drop : "KnowHouse$RuleEngine" ≠ "java/lang/invoke/MethodHandle" ∧ "KnowHouse$RuleEngine" ≠ "java/lang/invoke/VarHandle" ∧ (parseMethodDescriptor "(I)I").map (fun d => d.parameters.length) = some 1 := by decide +kernel
theorem hSHX35_safe : "KnowHouse$RuleEngine" ≠ "java/lang/invoke/MethodHandle" ∧ "KnowHouse$RuleEngine" ≠ "java/lang/invoke/VarHandle" ∧ (parseMethodDescriptor "(I)I").map (fun d => d.parameters.length) = some 1 := by decide +kernel
theorem hSHX35_run : "KnowHouse$RuleEngine" ≠ "java/lang/invoke/MethodHandle" ∧ "KnowHouse$RuleEngine" ≠ "java/lang/invoke/VarHandle" ∧ (parseMethodDescriptor "()I").map (fun d => d.parameters.length) = some 0 := by decide +kernel
theorem hSHX35_stratum : "KnowHouse$RuleEngine" ≠ "java/lang/invoke/MethodHandle" ∧ "KnowHouse$RuleEngine" ≠ "java/lang/invoke/VarHandle" ∧ (parseMethodDescriptor "(I)I").map (fun d => d.parameters.length) = some 1 := by decide +kernel
theorem hSHX35_round : "KnowHouse$RuleEngine" ≠ "java/lang/invoke/MethodHandle" ∧ "KnowHouse$RuleEngine" ≠ "java/lang/invoke/VarHandle" ∧ (parseMethodDescriptor "(III)I").map (fun d => d.parameters.length) = some 3 := by decide +kernel
theorem hSHX35_counts : "KnowHouse$RuleEngine" ≠ "java/lang/invoke/MethodHandle" ∧ "KnowHouse$RuleEngine" ≠ "java/lang/invoke/VarHandle" ∧ (parseMethodDescriptor "(III)I").map (fun d => d.parameters.length) = some 3 := by decide +kernel
theorem hSHX35_row : "KnowHouse$RuleEngine" ≠ "java/lang/invoke/MethodHandle" ∧ "KnowHouse$RuleEngine" ≠ "java/lang/invoke/VarHandle" ∧ (parseMethodDescriptor "(I)I").map (fun d => d.parameters.length) = some 1 := by decide +kernel
theorem hSHX35_size : "KnowHouse$RuleEngine" ≠ "java/lang/invoke/MethodHandle" ∧ "KnowHouse$RuleEngine" ≠ "java/lang/invoke/VarHandle" ∧ (parseMethodDescriptor "()I").map (fun d => d.parameters.length) = some 0 := by decide +kernel
theorem hSHX40_forget : "KnowHouse$QlRewrite" ≠ "java/lang/invoke/MethodHandle" ∧ "KnowHouse$QlRewrite" ≠ "java/lang/invoke/VarHandle" ∧ (parseMethodDescriptor "(ZIII)I").map (fun d => d.parameters.length) = some 4 := by decide +kernel
theorem hSHX40_question : "KnowHouse$QlRewrite" ≠ "java/lang/invoke/MethodHandle" ∧ "KnowHouse$QlRewrite" ≠ "java/lang/invoke/VarHandle" ∧ (parseMethodDescriptor "(I)I").map (fun d => d.parameters.length) = some 1 := by decide +kernel
theorem hSHX40_atom : "KnowHouse$QlRewrite" ≠ "java/lang/invoke/MethodHandle" ∧ "KnowHouse$QlRewrite" ≠ "java/lang/invoke/VarHandle" ∧ (parseMethodDescriptor "(IZIII)I").map (fun d => d.parameters.length) = some 5 := by decide +kernel
theorem hSHX40_forms : "KnowHouse$QlRewrite" ≠ "java/lang/invoke/MethodHandle" ∧ "KnowHouse$QlRewrite" ≠ "java/lang/invoke/VarHandle" ∧ (parseMethodDescriptor "(I)I").map (fun d => d.parameters.length) = some 1 := by decide +kernel
theorem hSHX40_form : "KnowHouse$QlRewrite" ≠ "java/lang/invoke/MethodHandle" ∧ "KnowHouse$QlRewrite" ≠ "java/lang/invoke/VarHandle" ∧ (parseMethodDescriptor "(III)I").map (fun d => d.parameters.length) = some 3 := by decide +kernel
theorem hSHX40_run : "KnowHouse$QlRewrite" ≠ "java/lang/invoke/MethodHandle" ∧ "KnowHouse$QlRewrite" ≠ "java/lang/invoke/VarHandle" ∧ (parseMethodDescriptor "(I)I").map (fun d => d.parameters.length) = some 1 := by decide +kernel
theorem hSHX40_answer : "KnowHouse$QlRewrite" ≠ "java/lang/invoke/MethodHandle" ∧ "KnowHouse$QlRewrite" ≠ "java/lang/invoke/VarHandle" ∧ (parseMethodDescriptor "(II)I").map (fun d => d.parameters.length) = some 2 := by decide +kernel
theorem hSHX40_why : "KnowHouse$QlRewrite" ≠ "java/lang/invoke/MethodHandle" ∧ "KnowHouse$QlRewrite" ≠ "java/lang/invoke/VarHandle" ∧ (parseMethodDescriptor "(II)I").map (fun d => d.parameters.length) = some 2 := by decide +kernel
theorem hSHX40_broken : "KnowHouse$QlRewrite" ≠ "java/lang/invoke/MethodHandle" ∧ "KnowHouse$QlRewrite" ≠ "java/lang/invoke/VarHandle" ∧ (parseMethodDescriptor "()I").map (fun d => d.parameters.length) = some 0 := by decide +kernel
theorem hSHX40_count : "KnowHouse$QlRewrite" ≠ "java/lang/invoke/MethodHandle" ∧ "KnowHouse$QlRewrite" ≠ "java/lang/invoke/VarHandle" ∧ (parseMethodDescriptor "(I)I").map (fun d => d.parameters.length) = some 1 := by decide +kernel
theorem hSHX40_clear : "KnowHouse$QlRewrite" ≠ "java/lang/invoke/MethodHandle" ∧ "KnowHouse$QlRewrite" ≠ "java/lang/invoke/VarHandle" ∧ (parseMethodDescriptor "()I").map (fun d => d.parameters.length) = some 0 := by decide +kernel
theorem hSHX42_cut : "KnowHouse$KnowDisk" ≠ "java/lang/invoke/MethodHandle" ∧ "KnowHouse$KnowDisk" ≠ "java/lang/invoke/VarHandle" ∧ (parseMethodDescriptor "(II)V").map (fun d => d.parameters.length) = some 2 := by decide +kernel
theorem hSHX42_start : "KnowHouse$KnowDisk" ≠ "java/lang/invoke/MethodHandle" ∧ "KnowHouse$KnowDisk" ≠ "java/lang/invoke/VarHandle" ∧ (parseMethodDescriptor "()I").map (fun d => d.parameters.length) = some 0 := by decide +kernel
theorem hSHX42_poke : "KnowHouse$KnowDisk" ≠ "java/lang/invoke/MethodHandle" ∧ "KnowHouse$KnowDisk" ≠ "java/lang/invoke/VarHandle" ∧ (parseMethodDescriptor "(III)I").map (fun d => d.parameters.length) = some 3 := by decide +kernel
theorem hSHX42_wrong : "KnowHouse$KnowDisk" ≠ "java/lang/invoke/MethodHandle" ∧ "KnowHouse$KnowDisk" ≠ "java/lang/invoke/VarHandle" ∧ (parseMethodDescriptor "(I)I").map (fun d => d.parameters.length) = some 1 := by decide +kernel
theorem hSHX42_backup : "KnowHouse$KnowDisk" ≠ "java/lang/invoke/MethodHandle" ∧ "KnowHouse$KnowDisk" ≠ "java/lang/invoke/VarHandle" ∧ (parseMethodDescriptor "(I)I").map (fun d => d.parameters.length) = some 1 := by decide +kernel
theorem hSHX42_drop : "KnowHouse$KnowDisk" ≠ "java/lang/invoke/MethodHandle" ∧ "KnowHouse$KnowDisk" ≠ "java/lang/invoke/VarHandle" ∧ (parseMethodDescriptor "(I)I").map (fun d => d.parameters.length) = some 1 := by decide +kernel
theorem hSHX42_derived : "KnowHouse$KnowDisk" ≠ "java/lang/invoke/MethodHandle" ∧ "KnowHouse$KnowDisk" ≠ "java/lang/invoke/VarHandle" ∧ (parseMethodDescriptor "(I)I").map (fun d => d.parameters.length) = some 1 := by decide +kernel
theorem hSHX42_full : "KnowHouse$KnowDisk" ≠ "java/lang/invoke/MethodHandle" ∧ "KnowHouse$KnowDisk" ≠ "java/lang/invoke/VarHandle" ∧ (parseMethodDescriptor "(Z)Z").map (fun d => d.parameters.length) = some 1 := by decide +kernel
theorem hSHJ0_init : yJ0_init.cls ≠ "java/lang/invoke/MethodHandle" ∧ yJ0_init.cls ≠ "java/lang/invoke/VarHandle" ∧ (parseMethodDescriptor yJ0_init.desc).map (fun d => d.parameters.length) = some 0 := by decide +kernel
theorem hSHJ1_init : yJ1_init.cls ≠ "java/lang/invoke/MethodHandle" ∧ yJ1_init.cls ≠ "java/lang/invoke/VarHandle" ∧ (parseMethodDescriptor yJ1_init.desc).map (fun d => d.parameters.length) = some 0 := by decide +kernel
theorem hSHJ2_init : yJ2_init.cls ≠ "java/lang/invoke/MethodHandle" ∧ yJ2_init.cls ≠ "java/lang/invoke/VarHandle" ∧ (parseMethodDescriptor yJ2_init.desc).map (fun d => d.parameters.length) = some 0 := by decide +kernel
theorem hSHJ13_hugeLength : yJ13_hugeLength.cls ≠ "java/lang/invoke/MethodHandle" ∧ yJ13_hugeLength.cls ≠ "java/lang/invoke/VarHandle" ∧ (parseMethodDescriptor yJ13_hugeLength.desc).map (fun d => d.parameters.length) = some 2 := by decide +kernel
theorem hSHJ12_copyOf_2 : yJ12_copyOf_2.cls ≠ "java/lang/invoke/MethodHandle" ∧ yJ12_copyOf_2.cls ≠ "java/lang/invoke/VarHandle" ∧ (parseMethodDescriptor yJ12_copyOf_2.desc).map (fun d => d.parameters.length) = some 3 := by decide +kernel
theorem hSHJ13_newLength : yJ13_newLength.cls ≠ "java/lang/invoke/MethodHandle" ∧ yJ13_newLength.cls ≠ "java/lang/invoke/VarHandle" ∧ (parseMethodDescriptor yJ13_newLength.desc).map (fun d => d.parameters.length) = some 3 := by decide +kernel
theorem hSHJ12_copyOf : yJ12_copyOf.cls ≠ "java/lang/invoke/MethodHandle" ∧ yJ12_copyOf.cls ≠ "java/lang/invoke/VarHandle" ∧ (parseMethodDescriptor yJ12_copyOf.desc).map (fun d => d.parameters.length) = some 2 := by decide +kernel
theorem hSHJ2_grow_2 : yJ2_grow_2.cls ≠ "java/lang/invoke/MethodHandle" ∧ yJ2_grow_2.cls ≠ "java/lang/invoke/VarHandle" ∧ (parseMethodDescriptor yJ2_grow_2.desc).map (fun d => d.parameters.length) = some 1 := by decide +kernel
theorem hSHJ2_grow : yJ2_grow.cls ≠ "java/lang/invoke/MethodHandle" ∧ yJ2_grow.cls ≠ "java/lang/invoke/VarHandle" ∧ (parseMethodDescriptor yJ2_grow.desc).map (fun d => d.parameters.length) = some 0 := by decide +kernel
theorem hSHJ2_add_2 : yJ2_add_2.cls ≠ "java/lang/invoke/MethodHandle" ∧ yJ2_add_2.cls ≠ "java/lang/invoke/VarHandle" ∧ (parseMethodDescriptor yJ2_add_2.desc).map (fun d => d.parameters.length) = some 3 := by decide +kernel
theorem hSHX44_init : yX44_init.cls ≠ "java/lang/invoke/MethodHandle" ∧ yX44_init.cls ≠ "java/lang/invoke/VarHandle" ∧ (parseMethodDescriptor yX44_init.desc).map (fun d => d.parameters.length) = some 4 := by decide +kernel
theorem hSHJ2_add : yJ2_add.cls ≠ "java/lang/invoke/MethodHandle" ∧ yJ2_add.cls ≠ "java/lang/invoke/VarHandle" ∧ (parseMethodDescriptor yJ2_add.desc).map (fun d => d.parameters.length) = some 1 := by decide +kernel
theorem hSHX0_add : yX0_add.cls ≠ "java/lang/invoke/MethodHandle" ∧ yX0_add.cls ≠ "java/lang/invoke/VarHandle" ∧ (parseMethodDescriptor yX0_add.desc).map (fun d => d.parameters.length) = some 4 := by decide +kernel
theorem hSHJ15_checkIndex : yJ15_checkIndex.cls ≠ "java/lang/invoke/MethodHandle" ∧ yJ15_checkIndex.cls ≠ "java/lang/invoke/VarHandle" ∧ (parseMethodDescriptor yJ15_checkIndex.desc).map (fun d => d.parameters.length) = some 3 := by decide +kernel
theorem hSHJ14_checkIndex : yJ14_checkIndex.cls ≠ "java/lang/invoke/MethodHandle" ∧ yJ14_checkIndex.cls ≠ "java/lang/invoke/VarHandle" ∧ (parseMethodDescriptor yJ14_checkIndex.desc).map (fun d => d.parameters.length) = some 2 := by decide +kernel
theorem hSHJ2_elementData : yJ2_elementData.cls ≠ "java/lang/invoke/MethodHandle" ∧ yJ2_elementData.cls ≠ "java/lang/invoke/VarHandle" ∧ (parseMethodDescriptor yJ2_elementData.desc).map (fun d => d.parameters.length) = some 1 := by decide +kernel
theorem hSHJ16_coder : yJ16_coder.cls ≠ "java/lang/invoke/MethodHandle" ∧ yJ16_coder.cls ≠ "java/lang/invoke/VarHandle" ∧ (parseMethodDescriptor yJ16_coder.desc).map (fun d => d.parameters.length) = some 0 := by decide +kernel
theorem hSHJ16_checkIndex : yJ16_checkIndex.cls ≠ "java/lang/invoke/MethodHandle" ∧ yJ16_checkIndex.cls ≠ "java/lang/invoke/VarHandle" ∧ (parseMethodDescriptor yJ16_checkIndex.desc).map (fun d => d.parameters.length) = some 2 := by decide +kernel
theorem hSHJ16_isLatin1 : yJ16_isLatin1.cls ≠ "java/lang/invoke/MethodHandle" ∧ yJ16_isLatin1.cls ≠ "java/lang/invoke/VarHandle" ∧ (parseMethodDescriptor yJ16_isLatin1.desc).map (fun d => d.parameters.length) = some 0 := by decide +kernel
theorem hSHJ17_charAt : yJ17_charAt.cls ≠ "java/lang/invoke/MethodHandle" ∧ yJ17_charAt.cls ≠ "java/lang/invoke/VarHandle" ∧ (parseMethodDescriptor yJ17_charAt.desc).map (fun d => d.parameters.length) = some 2 := by decide +kernel
theorem hSHJ16_length : yJ16_length.cls ≠ "java/lang/invoke/MethodHandle" ∧ yJ16_length.cls ≠ "java/lang/invoke/VarHandle" ∧ (parseMethodDescriptor yJ16_length.desc).map (fun d => d.parameters.length) = some 0 := by decide +kernel
theorem hSHJ16_charAt : yJ16_charAt.cls ≠ "java/lang/invoke/MethodHandle" ∧ yJ16_charAt.cls ≠ "java/lang/invoke/VarHandle" ∧ (parseMethodDescriptor yJ16_charAt.desc).map (fun d => d.parameters.length) = some 1 := by decide +kernel
theorem hSHX0_isDigit : yX0_isDigit.cls ≠ "java/lang/invoke/MethodHandle" ∧ yX0_isDigit.cls ≠ "java/lang/invoke/VarHandle" ∧ (parseMethodDescriptor yX0_isDigit.desc).map (fun d => d.parameters.length) = some 1 := by decide +kernel
theorem hSHX0_thing : yX0_thing.cls ≠ "java/lang/invoke/MethodHandle" ∧ yX0_thing.cls ≠ "java/lang/invoke/VarHandle" ∧ (parseMethodDescriptor yX0_thing.desc).map (fun d => d.parameters.length) = some 1 := by decide +kernel
theorem hSHX0_head : yX0_head.cls ≠ "java/lang/invoke/MethodHandle" ∧ yX0_head.cls ≠ "java/lang/invoke/VarHandle" ∧ (parseMethodDescriptor yX0_head.desc).map (fun d => d.parameters.length) = some 1 := by decide +kernel
theorem hSHX0_value : yX0_value.cls ≠ "java/lang/invoke/MethodHandle" ∧ yX0_value.cls ≠ "java/lang/invoke/VarHandle" ∧ (parseMethodDescriptor yX0_value.desc).map (fun d => d.parameters.length) = some 1 := by decide +kernel
theorem hSHX0_begun : yX0_begun.cls ≠ "java/lang/invoke/MethodHandle" ∧ yX0_begun.cls ≠ "java/lang/invoke/VarHandle" ∧ (parseMethodDescriptor yX0_begun.desc).map (fun d => d.parameters.length) = some 0 := by decide +kernel
theorem hSHX0_tell : yX0_tell.cls ≠ "java/lang/invoke/MethodHandle" ∧ yX0_tell.cls ≠ "java/lang/invoke/VarHandle" ∧ (parseMethodDescriptor yX0_tell.desc).map (fun d => d.parameters.length) = some 2 := by decide +kernel
theorem hSHX0_enter : yX0_enter.cls ≠ "java/lang/invoke/MethodHandle" ∧ yX0_enter.cls ≠ "java/lang/invoke/VarHandle" ∧ (parseMethodDescriptor yX0_enter.desc).map (fun d => d.parameters.length) = some 3 := by decide +kernel
theorem hSHX0_num : yX0_num.cls ≠ "java/lang/invoke/MethodHandle" ∧ yX0_num.cls ≠ "java/lang/invoke/VarHandle" ∧ (parseMethodDescriptor yX0_num.desc).map (fun d => d.parameters.length) = some 1 := by decide +kernel
theorem hSHX0_flag : yX0_flag.cls ≠ "java/lang/invoke/MethodHandle" ∧ yX0_flag.cls ≠ "java/lang/invoke/VarHandle" ∧ (parseMethodDescriptor yX0_flag.desc).map (fun d => d.parameters.length) = some 1 := by decide +kernel
theorem hSHX0_say : yX0_say.cls ≠ "java/lang/invoke/MethodHandle" ∧ yX0_say.cls ≠ "java/lang/invoke/VarHandle" ∧ (parseMethodDescriptor yX0_say.desc).map (fun d => d.parameters.length) = some 3 := by decide +kernel
theorem hSHX0_level : yX0_level.cls ≠ "java/lang/invoke/MethodHandle" ∧ yX0_level.cls ≠ "java/lang/invoke/VarHandle" ∧ (parseMethodDescriptor yX0_level.desc).map (fun d => d.parameters.length) = some 0 := by decide +kernel
theorem hSHX0_publish : yX0_publish.cls ≠ "java/lang/invoke/MethodHandle" ∧ yX0_publish.cls ≠ "java/lang/invoke/VarHandle" ∧ (parseMethodDescriptor yX0_publish.desc).map (fun d => d.parameters.length) = some 0 := by decide +kernel
theorem hSHX0_under : yX0_under.cls ≠ "java/lang/invoke/MethodHandle" ∧ yX0_under.cls ≠ "java/lang/invoke/VarHandle" ∧ (parseMethodDescriptor yX0_under.desc).map (fun d => d.parameters.length) = some 2 := by decide +kernel
theorem hSHX0_is : yX0_is.cls ≠ "java/lang/invoke/MethodHandle" ∧ yX0_is.cls ≠ "java/lang/invoke/VarHandle" ∧ (parseMethodDescriptor yX0_is.desc).map (fun d => d.parameters.length) = some 2 := by decide +kernel
theorem hSHX0_order : yX0_order.cls ≠ "java/lang/invoke/MethodHandle" ∧ yX0_order.cls ≠ "java/lang/invoke/VarHandle" ∧ (parseMethodDescriptor yX0_order.desc).map (fun d => d.parameters.length) = some 0 := by decide +kernel
theorem hSHX0_take : yX0_take.cls ≠ "java/lang/invoke/MethodHandle" ∧ yX0_take.cls ≠ "java/lang/invoke/VarHandle" ∧ (parseMethodDescriptor yX0_take.desc).map (fun d => d.parameters.length) = some 3 := by decide +kernel
theorem hSHX0_store : yX0_store.cls ≠ "java/lang/invoke/MethodHandle" ∧ yX0_store.cls ≠ "java/lang/invoke/VarHandle" ∧ (parseMethodDescriptor yX0_store.desc).map (fun d => d.parameters.length) = some 1 := by decide +kernel
theorem hSHX0_audit : yX0_audit.cls ≠ "java/lang/invoke/MethodHandle" ∧ yX0_audit.cls ≠ "java/lang/invoke/VarHandle" ∧ (parseMethodDescriptor yX0_audit.desc).map (fun d => d.parameters.length) = some 0 := by decide +kernel
theorem hSHX0_entry : yX0_entry.cls ≠ "java/lang/invoke/MethodHandle" ∧ yX0_entry.cls ≠ "java/lang/invoke/VarHandle" ∧ (parseMethodDescriptor yX0_entry.desc).map (fun d => d.parameters.length) = some 2 := by decide +kernel
theorem hSHX0_told : yX0_told.cls ≠ "java/lang/invoke/MethodHandle" ∧ yX0_told.cls ≠ "java/lang/invoke/VarHandle" ∧ (parseMethodDescriptor yX0_told.desc).map (fun d => d.parameters.length) = some 1 := by decide +kernel
theorem hSHX0_houseCall : yX0_houseCall.cls ≠ "java/lang/invoke/MethodHandle" ∧ yX0_houseCall.cls ≠ "java/lang/invoke/VarHandle" ∧ (parseMethodDescriptor yX0_houseCall.desc).map (fun d => d.parameters.length) = some 1 := by decide +kernel
theorem hSHX0_namesCall : yX0_namesCall.cls ≠ "java/lang/invoke/MethodHandle" ∧ yX0_namesCall.cls ≠ "java/lang/invoke/VarHandle" ∧ (parseMethodDescriptor yX0_namesCall.desc).map (fun d => d.parameters.length) = some 1 := by decide +kernel
theorem hSHX0_versionsCall : yX0_versionsCall.cls ≠ "java/lang/invoke/MethodHandle" ∧ yX0_versionsCall.cls ≠ "java/lang/invoke/VarHandle" ∧ (parseMethodDescriptor yX0_versionsCall.desc).map (fun d => d.parameters.length) = some 1 := by decide +kernel
theorem hSHX0_valuesCall : yX0_valuesCall.cls ≠ "java/lang/invoke/MethodHandle" ∧ yX0_valuesCall.cls ≠ "java/lang/invoke/VarHandle" ∧ (parseMethodDescriptor yX0_valuesCall.desc).map (fun d => d.parameters.length) = some 1 := by decide +kernel
theorem hSHX0_proofsCall : yX0_proofsCall.cls ≠ "java/lang/invoke/MethodHandle" ∧ yX0_proofsCall.cls ≠ "java/lang/invoke/VarHandle" ∧ (parseMethodDescriptor yX0_proofsCall.desc).map (fun d => d.parameters.length) = some 1 := by decide +kernel
theorem hSHX0_rightsCall : yX0_rightsCall.cls ≠ "java/lang/invoke/MethodHandle" ∧ yX0_rightsCall.cls ≠ "java/lang/invoke/VarHandle" ∧ (parseMethodDescriptor yX0_rightsCall.desc).map (fun d => d.parameters.length) = some 1 := by decide +kernel
theorem hSHX0_classesCall : yX0_classesCall.cls ≠ "java/lang/invoke/MethodHandle" ∧ yX0_classesCall.cls ≠ "java/lang/invoke/VarHandle" ∧ (parseMethodDescriptor yX0_classesCall.desc).map (fun d => d.parameters.length) = some 1 := by decide +kernel
theorem hSHX0_facetsCall : yX0_facetsCall.cls ≠ "java/lang/invoke/MethodHandle" ∧ yX0_facetsCall.cls ≠ "java/lang/invoke/VarHandle" ∧ (parseMethodDescriptor yX0_facetsCall.desc).map (fun d => d.parameters.length) = some 1 := by decide +kernel
theorem hSHX0_tablesCall : yX0_tablesCall.cls ≠ "java/lang/invoke/MethodHandle" ∧ yX0_tablesCall.cls ≠ "java/lang/invoke/VarHandle" ∧ (parseMethodDescriptor yX0_tablesCall.desc).map (fun d => d.parameters.length) = some 1 := by decide +kernel
theorem hSHX0_rulesCall : yX0_rulesCall.cls ≠ "java/lang/invoke/MethodHandle" ∧ yX0_rulesCall.cls ≠ "java/lang/invoke/VarHandle" ∧ (parseMethodDescriptor yX0_rulesCall.desc).map (fun d => d.parameters.length) = some 1 := by decide +kernel
theorem hSHX0_rewriteCall : yX0_rewriteCall.cls ≠ "java/lang/invoke/MethodHandle" ∧ yX0_rewriteCall.cls ≠ "java/lang/invoke/VarHandle" ∧ (parseMethodDescriptor yX0_rewriteCall.desc).map (fun d => d.parameters.length) = some 1 := by decide +kernel
theorem hSHX0_diskCall : yX0_diskCall.cls ≠ "java/lang/invoke/MethodHandle" ∧ yX0_diskCall.cls ≠ "java/lang/invoke/VarHandle" ∧ (parseMethodDescriptor yX0_diskCall.desc).map (fun d => d.parameters.length) = some 1 := by decide +kernel
theorem hSHX0_called : yX0_called.cls ≠ "java/lang/invoke/MethodHandle" ∧ yX0_called.cls ≠ "java/lang/invoke/VarHandle" ∧ (parseMethodDescriptor yX0_called.desc).map (fun d => d.parameters.length) = some 2 := by decide +kernel
theorem hSHJ2_size : yJ2_size.cls ≠ "java/lang/invoke/MethodHandle" ∧ yJ2_size.cls ≠ "java/lang/invoke/VarHandle" ∧ (parseMethodDescriptor yJ2_size.desc).map (fun d => d.parameters.length) = some 0 := by decide +kernel
theorem hSHJ2_get : yJ2_get.cls ≠ "java/lang/invoke/MethodHandle" ∧ yJ2_get.cls ≠ "java/lang/invoke/VarHandle" ∧ (parseMethodDescriptor yJ2_get.desc).map (fun d => d.parameters.length) = some 1 := by decide +kernel
theorem hSHX0_isWord : yX0_isWord.cls ≠ "java/lang/invoke/MethodHandle" ∧ yX0_isWord.cls ≠ "java/lang/invoke/VarHandle" ∧ (parseMethodDescriptor yX0_isWord.desc).map (fun d => d.parameters.length) = some 2 := by decide +kernel
theorem hSHX0_reads : yX0_reads.cls ≠ "java/lang/invoke/MethodHandle" ∧ yX0_reads.cls ≠ "java/lang/invoke/VarHandle" ∧ (parseMethodDescriptor yX0_reads.desc).map (fun d => d.parameters.length) = some 2 := by decide +kernel
theorem hSHX0_give : yX0_give.cls ≠ "java/lang/invoke/MethodHandle" ∧ yX0_give.cls ≠ "java/lang/invoke/VarHandle" ∧ (parseMethodDescriptor yX0_give.desc).map (fun d => d.parameters.length) = some 1 := by decide +kernel
theorem hSHX0_split : yX0_split.cls ≠ "java/lang/invoke/MethodHandle" ∧ yX0_split.cls ≠ "java/lang/invoke/VarHandle" ∧ (parseMethodDescriptor yX0_split.desc).map (fun d => d.parameters.length) = some 2 := by decide +kernel
theorem hSHX0_act : yX0_act.cls ≠ "java/lang/invoke/MethodHandle" ∧ yX0_act.cls ≠ "java/lang/invoke/VarHandle" ∧ (parseMethodDescriptor yX0_act.desc).map (fun d => d.parameters.length) = some 0 := by decide +kernel
theorem hSHJ2_fastRemove : yJ2_fastRemove.cls ≠ "java/lang/invoke/MethodHandle" ∧ yJ2_fastRemove.cls ≠ "java/lang/invoke/VarHandle" ∧ (parseMethodDescriptor yJ2_fastRemove.desc).map (fun d => d.parameters.length) = some 2 := by decide +kernel
def kESH (G : kGt) (sa : Nat → Nat) (so : kSo) : Prop := ∀ (A : Nat → Prop) (s : State) (H : Heap), G A s H → va_Z "java/util/ArrayList" "DEFAULTCAPACITY_EMPTY_ELEMENTDATA" "[Ljava/lang/Object;" (.ref (sa 0)) A s H ∧ va_Mi "[Ljava/lang/Object;" (sa 10) s ∧ kSf so A s H ∧ va_T (.object "java/lang/Object") (sa 0) 0 (fun _ => .null) A s H ∧ vk_R "KnowHouse" 180 "say" (sa 112) s ∧ vk_R "KnowHouse" 182 "iib" (sa 113) s ∧ vk_R "KnowHouse" 187 "level" (sa 114) s ∧ vk_R "KnowHouse" 189 "" (sa 115) s ∧ vk_R "KnowHouse" 191 "publish" (sa 116) s ∧ vk_R "KnowHouse" 193 "under" (sa 117) s ∧ vk_R "KnowHouse" 195 "ii" (sa 118) s ∧ vk_R "KnowHouse" 197 "is" (sa 119) s ∧ vk_R "KnowHouse" 199 "order" (sa 120) s ∧ vk_R "KnowHouse" 201 "take" (sa 121) s ∧ vk_R "KnowHouse" 203 "iii" (sa 122) s ∧ vk_R "KnowHouse" 205 "store" (sa 123) s ∧ vk_R "KnowHouse" 207 "i" (sa 124) s ∧ vk_R "KnowHouse" 209 "audit" (sa 125) s ∧ vk_R "KnowHouse" 211 "entry" (sa 126) s ∧ vk_R "KnowHouse" 213 "blank" (sa 127) s ∧ vk_R "KnowHouse" 215 "triple" (sa 128) s ∧ vk_R "KnowHouse" 217 "drop" (sa 129) s ∧ vk_R "KnowHouse" 219 "name" (sa 130) s ∧ vk_R "KnowHouse" 221 "l" (sa 131) s ∧ vk_R "KnowHouse" 223 "named" (sa 132) s ∧ vk_R "KnowHouse" 225 "form" (sa 133) s ∧ vk_R "KnowHouse" 227 "hash" (sa 134) s ∧ vk_R "KnowHouse" 229 "rounds" (sa 135) s ∧ vk_R "KnowHouse" 231 "first" (sa 136) s ∧ vk_R "KnowHouse" 233 "keep" (sa 137) s ∧ vk_R "KnowHouse" 235 "isomorphic" (sa 138) s ∧ vk_R "KnowHouse" 237 "ways" (sa 139) s ∧ vk_R "KnowHouse" 239 "equal" (sa 140) s ∧ vk_R "KnowHouse" 241 "triples" (sa 141) s ∧ vk_R "KnowHouse" 243 "blanks" (sa 142) s ∧ vk_R "KnowHouse" 245 "begin" (sa 143) s ∧ vk_R "KnowHouse" 247 "look" (sa 144) s ∧ vk_R "KnowHouse" 249 "put" (sa 145) s ∧ vk_R "KnowHouse" 251 "note" (sa 146) s ∧ vk_R "KnowHouse" 253 "read" (sa 147) s ∧ vk_R "KnowHouse" 255 "told" (sa 148) s ∧ vk_R "KnowHouse" 257 "commit" (sa 149) s ∧ vk_R "KnowHouse" 259 "abort" (sa 150) s ∧ vk_R "KnowHouse" 261 "pin" (sa 151) s ∧ vk_R "KnowHouse" 263 "unpin" (sa 152) s ∧ vk_R "KnowHouse" 265 "free" (sa 153) s ∧ vk_R "KnowHouse" 267 "rows" (sa 154) s ∧ vk_R "KnowHouse" 269 "latest" (sa 155) s ∧ vk_R "KnowHouse" 271 "least" (sa 156) s ∧ vk_R "KnowHouse" 273 "state" (sa 157) s ∧ vk_R "KnowHouse" 275 "waits" (sa 158) s ∧ vk_R "KnowHouse" 277 "ring" (sa 159) s ∧ vk_R "KnowHouse" 279 "conflicts" (sa 160) s ∧ vk_R "KnowHouse" 281 "type" (sa 161) s ∧ vk_R "KnowHouse" 283 "li" (sa 162) s ∧ vk_R "KnowHouse" 135 "values" (sa 103) s ∧ vk_R "KnowHouse" 285 "kind" (sa 163) s ∧ vk_R "KnowHouse" 287 "compare" (sa 164) s ∧ vk_R "KnowHouse" 289 "part" (sa 165) s ∧ vk_R "KnowHouse" 291 "byteOf" (sa 166) s ∧ vk_R "KnowHouse" 293 "tell" (sa 167) s ∧ vk_R "KnowHouse" 295 "apply" (sa 168) s ∧ vk_R "KnowHouse" 297 "axiom" (sa 169) s ∧ vk_R "KnowHouse" 299 "row" (sa 170) s ∧ vk_R "KnowHouse" 301 "premise" (sa 171) s ∧ vk_R "KnowHouse" 303 "check" (sa 172) s ∧ vk_R "KnowHouse" 305 "broken" (sa 173) s ∧ vk_R "KnowHouse" 307 "size" (sa 174) s ∧ vk_R "KnowHouse" 309 "states" (sa 175) s ∧ vk_R "KnowHouse" 311 "sentence" (sa 176) s ∧ vk_R "KnowHouse" 313 "at" (sa 177) s ∧ vk_R "KnowHouse" 315 "concludes" (sa 178) s ∧ vk_R "KnowHouse" 317 "member" (sa 179) s ∧ vk_R "KnowHouse" 319 "condition" (sa 180) s ∧ vk_R "KnowHouse" 321 "iiii" (sa 181) s ∧ vk_R "KnowHouse" 323 "rule" (sa 182) s ∧ vk_R "KnowHouse" 325 "ibi" (sa 183) s ∧ vk_R "KnowHouse" 327 "may" (sa 184) s ∧ vk_R "KnowHouse" 329 "iiiiii" (sa 185) s ∧ vk_R "KnowHouse" 331 "asks" (sa 186) s ∧ vk_R "KnowHouse" 333 "ask" (sa 187) s ∧ vk_R "KnowHouse" 335 "within" (sa 188) s ∧ vk_R "KnowHouse" 337 "decides" (sa 189) s ∧ vk_R "KnowHouse" 339 "sees" (sa 190) s ∧ vk_R "KnowHouse" 341 "matters" (sa 191) s ∧ vk_R "KnowHouse" 343 "idle" (sa 192) s ∧ vk_R "KnowHouse" 345 "bi" (sa 193) s ∧ vk_R "KnowHouse" 347 "apart" (sa 194) s ∧ vk_R "KnowHouse" 349 "allowed" (sa 195) s ∧ vk_R "KnowHouse" 351 "conditions" (sa 196) s ∧ vk_R "KnowHouse" 141 "rules" (sa 109) s ∧ vk_R "KnowHouse" 353 "class0" (sa 197) s ∧ vk_R "KnowHouse" 355 "thing" (sa 198) s ∧ vk_R "KnowHouse" 357 "remove" (sa 199) s ∧ vk_R "KnowHouse" 359 "fuel" (sa 200) s ∧ vk_R "KnowHouse" 361 "known" (sa 201) s ∧ vk_R "KnowHouse" 363 "run" (sa 202) s ∧ vk_R "KnowHouse" 365 "parent" (sa 203) s ∧ vk_R "KnowHouse" 367 "child" (sa 204) s ∧ vk_R "KnowHouse" 369 "empty" (sa 205) s ∧ vk_R "KnowHouse" 371 "open" (sa 206) s ∧ vk_R "KnowHouse" 373 "trace" (sa 207) s ∧ vk_R "KnowHouse" 375 "count" (sa 208) s ∧ vk_R "KnowHouse" 377 "above" (sa 209) s ∧ vk_R "KnowHouse" 379 "choose" (sa 210) s ∧ vk_R "KnowHouse" 381 "kept" (sa 211) s ∧ vk_R "KnowHouse" 383 "isKept" (sa 212) s ∧ vk_R "KnowHouse" 385 "facet" (sa 213) s ∧ vk_R "KnowHouse" 387 "top" (sa 214) s ∧ vk_R "KnowHouse" 389 "range" (sa 215) s ∧ vk_R "KnowHouse" 391 "sum" (sa 216) s ∧ vk_R "KnowHouse" 393 "changed" (sa 217) s ∧ vk_R "KnowHouse" 395 "key" (sa 218) s ∧ vk_R "KnowHouse" 397 "mapping" (sa 219) s ∧ vk_R "KnowHouse" 399 "atom" (sa 220) s ∧ vk_R "KnowHouse" 401 "span" (sa 221) s ∧ vk_R "KnowHouse" 403 "clear" (sa 222) s ∧ vk_R "KnowHouse" 405 "unions" (sa 223) s ∧ vk_R "KnowHouse" 407 "union" (sa 224) s ∧ vk_R "KnowHouse" 409 "estimate" (sa 225) s ∧ vk_R "KnowHouse" 411 "value" (sa 226) s ∧ vk_R "KnowHouse" 413 "found" (sa 227) s ∧ vk_R "KnowHouse" 415 "fact" (sa 228) s ∧ vk_R "KnowHouse" 417 "body" (sa 229) s ∧ vk_R "KnowHouse" 419 "iiiib" (sa 230) s ∧ vk_R "KnowHouse" 421 "filter" (sa 231) s ∧ vk_R "KnowHouse" 423 "aggregate" (sa 232) s ∧ vk_R "KnowHouse" 425 "safe" (sa 233) s ∧ vk_R "KnowHouse" 427 "stratum" (sa 234) s ∧ vk_R "KnowHouse" 429 "holds" (sa 235) s ∧ vk_R "KnowHouse" 431 "round" (sa 236) s ∧ vk_R "KnowHouse" 433 "counts" (sa 237) s ∧ vk_R "KnowHouse" 435 "biii" (sa 238) s ∧ vk_R "KnowHouse" 437 "forget" (sa 239) s ∧ vk_R "KnowHouse" 439 "question" (sa 240) s ∧ vk_R "KnowHouse" 441 "ibiii" (sa 241) s ∧ vk_R "KnowHouse" 443 "forms" (sa 242) s ∧ vk_R "KnowHouse" 445 "answer" (sa 243) s ∧ vk_R "KnowHouse" 447 "why" (sa 244) s ∧ vk_R "KnowHouse" 449 "page" (sa 245) s ∧ vk_R "KnowHouse" 451 "iil" (sa 246) s ∧ vk_R "KnowHouse" 453 "sync" (sa 247) s ∧ vk_R "KnowHouse" 455 "cut" (sa 248) s ∧ vk_R "KnowHouse" 457 "start" (sa 249) s ∧ vk_R "KnowHouse" 459 "poke" (sa 250) s ∧ vk_R "KnowHouse" 461 "wrong" (sa 251) s ∧ vk_R "KnowHouse" 462 "backup" (sa 252) s ∧ vk_R "KnowHouse" 464 "derived" (sa 253) s ∧ vk_R "KnowHouse" 466 "full" (sa 254) s ∧ vk_R "KnowHouse" 468 "b" (sa 255) s ∧ va_Z "java/lang/String" "COMPACT_STRINGS" "Z" (.int 1) A s H ∧ va_Z "jdk/internal/util/Preconditions" "SIOOBE_FORMATTER" "Ljava/util/function/BiFunction;" (.ref (sa 11)) A s H ∧ va_Nc "java/lang/IllegalStateException" "java/lang/IllegalArgumentException" s ∧ (∃ k, ClassAt s "java/lang/String" k) ∧ True
theorem kESH_0 {G : kGt} {sa : Nat → Nat} {so : kSo} (h : kESH G sa so) {A : Nat → Prop} {s : State} {H : Heap} (g : G A s H) : va_Z "java/util/ArrayList" "DEFAULTCAPACITY_EMPTY_ELEMENTDATA" "[Ljava/lang/Object;" (.ref (sa 0)) A s H := (h A s H g).1
theorem kESH_1 {G : kGt} {sa : Nat → Nat} {so : kSo} (h : kESH G sa so) {A : Nat → Prop} {s : State} {H : Heap} (g : G A s H) : va_Mi "[Ljava/lang/Object;" (sa 10) s := (h A s H g).2.1
theorem kESH_2 {G : kGt} {sa : Nat → Nat} {so : kSo} (h : kESH G sa so) {A : Nat → Prop} {s : State} {H : Heap} (g : G A s H) : kSf so A s H := (h A s H g).2.2.1
theorem kESH_3 {G : kGt} {sa : Nat → Nat} {so : kSo} (h : kESH G sa so) {A : Nat → Prop} {s : State} {H : Heap} (g : G A s H) : va_T (.object "java/lang/Object") (sa 0) 0 (fun _ => .null) A s H := (h A s H g).2.2.2.1
theorem kESH_4 {G : kGt} {sa : Nat → Nat} {so : kSo} (h : kESH G sa so) {A : Nat → Prop} {s : State} {H : Heap} (g : G A s H) : vk_R "KnowHouse" 180 "say" (sa 112) s := (h A s H g).2.2.2.2.1
theorem kESH_5 {G : kGt} {sa : Nat → Nat} {so : kSo} (h : kESH G sa so) {A : Nat → Prop} {s : State} {H : Heap} (g : G A s H) : vk_R "KnowHouse" 182 "iib" (sa 113) s := (h A s H g).2.2.2.2.2.1
theorem kESH_6 {G : kGt} {sa : Nat → Nat} {so : kSo} (h : kESH G sa so) {A : Nat → Prop} {s : State} {H : Heap} (g : G A s H) : vk_R "KnowHouse" 187 "level" (sa 114) s := (h A s H g).2.2.2.2.2.2.1
theorem kESH_7 {G : kGt} {sa : Nat → Nat} {so : kSo} (h : kESH G sa so) {A : Nat → Prop} {s : State} {H : Heap} (g : G A s H) : vk_R "KnowHouse" 189 "" (sa 115) s := (h A s H g).2.2.2.2.2.2.2.1
theorem kESH_8 {G : kGt} {sa : Nat → Nat} {so : kSo} (h : kESH G sa so) {A : Nat → Prop} {s : State} {H : Heap} (g : G A s H) : vk_R "KnowHouse" 191 "publish" (sa 116) s := (h A s H g).2.2.2.2.2.2.2.2.1
theorem kESH_9 {G : kGt} {sa : Nat → Nat} {so : kSo} (h : kESH G sa so) {A : Nat → Prop} {s : State} {H : Heap} (g : G A s H) : vk_R "KnowHouse" 193 "under" (sa 117) s := (h A s H g).2.2.2.2.2.2.2.2.2.1
theorem kESH_10 {G : kGt} {sa : Nat → Nat} {so : kSo} (h : kESH G sa so) {A : Nat → Prop} {s : State} {H : Heap} (g : G A s H) : vk_R "KnowHouse" 195 "ii" (sa 118) s := (h A s H g).2.2.2.2.2.2.2.2.2.2.1
theorem kESH_11 {G : kGt} {sa : Nat → Nat} {so : kSo} (h : kESH G sa so) {A : Nat → Prop} {s : State} {H : Heap} (g : G A s H) : vk_R "KnowHouse" 197 "is" (sa 119) s := (h A s H g).2.2.2.2.2.2.2.2.2.2.2.1
theorem kESH_12 {G : kGt} {sa : Nat → Nat} {so : kSo} (h : kESH G sa so) {A : Nat → Prop} {s : State} {H : Heap} (g : G A s H) : vk_R "KnowHouse" 199 "order" (sa 120) s := (h A s H g).2.2.2.2.2.2.2.2.2.2.2.2.1
theorem kESH_13 {G : kGt} {sa : Nat → Nat} {so : kSo} (h : kESH G sa so) {A : Nat → Prop} {s : State} {H : Heap} (g : G A s H) : vk_R "KnowHouse" 201 "take" (sa 121) s := (h A s H g).2.2.2.2.2.2.2.2.2.2.2.2.2.1
theorem kESH_14 {G : kGt} {sa : Nat → Nat} {so : kSo} (h : kESH G sa so) {A : Nat → Prop} {s : State} {H : Heap} (g : G A s H) : vk_R "KnowHouse" 203 "iii" (sa 122) s := (h A s H g).2.2.2.2.2.2.2.2.2.2.2.2.2.2.1
theorem kESH_15 {G : kGt} {sa : Nat → Nat} {so : kSo} (h : kESH G sa so) {A : Nat → Prop} {s : State} {H : Heap} (g : G A s H) : vk_R "KnowHouse" 205 "store" (sa 123) s := (h A s H g).2.2.2.2.2.2.2.2.2.2.2.2.2.2.2.1
theorem kESH_16 {G : kGt} {sa : Nat → Nat} {so : kSo} (h : kESH G sa so) {A : Nat → Prop} {s : State} {H : Heap} (g : G A s H) : vk_R "KnowHouse" 207 "i" (sa 124) s := (h A s H g).2.2.2.2.2.2.2.2.2.2.2.2.2.2.2.2.1
theorem kESH_17 {G : kGt} {sa : Nat → Nat} {so : kSo} (h : kESH G sa so) {A : Nat → Prop} {s : State} {H : Heap} (g : G A s H) : vk_R "KnowHouse" 209 "audit" (sa 125) s := (h A s H g).2.2.2.2.2.2.2.2.2.2.2.2.2.2.2.2.2.1
theorem kESH_18 {G : kGt} {sa : Nat → Nat} {so : kSo} (h : kESH G sa so) {A : Nat → Prop} {s : State} {H : Heap} (g : G A s H) : vk_R "KnowHouse" 211 "entry" (sa 126) s := (h A s H g).2.2.2.2.2.2.2.2.2.2.2.2.2.2.2.2.2.2.1
theorem kESH_19 {G : kGt} {sa : Nat → Nat} {so : kSo} (h : kESH G sa so) {A : Nat → Prop} {s : State} {H : Heap} (g : G A s H) : vk_R "KnowHouse" 213 "blank" (sa 127) s := (h A s H g).2.2.2.2.2.2.2.2.2.2.2.2.2.2.2.2.2.2.2.1
theorem kESH_20 {G : kGt} {sa : Nat → Nat} {so : kSo} (h : kESH G sa so) {A : Nat → Prop} {s : State} {H : Heap} (g : G A s H) : vk_R "KnowHouse" 215 "triple" (sa 128) s := (h A s H g).2.2.2.2.2.2.2.2.2.2.2.2.2.2.2.2.2.2.2.2.1
theorem kESH_21 {G : kGt} {sa : Nat → Nat} {so : kSo} (h : kESH G sa so) {A : Nat → Prop} {s : State} {H : Heap} (g : G A s H) : vk_R "KnowHouse" 217 "drop" (sa 129) s := (h A s H g).2.2.2.2.2.2.2.2.2.2.2.2.2.2.2.2.2.2.2.2.2.1
theorem kESH_22 {G : kGt} {sa : Nat → Nat} {so : kSo} (h : kESH G sa so) {A : Nat → Prop} {s : State} {H : Heap} (g : G A s H) : vk_R "KnowHouse" 219 "name" (sa 130) s := (h A s H g).2.2.2.2.2.2.2.2.2.2.2.2.2.2.2.2.2.2.2.2.2.2.1
theorem kESH_23 {G : kGt} {sa : Nat → Nat} {so : kSo} (h : kESH G sa so) {A : Nat → Prop} {s : State} {H : Heap} (g : G A s H) : vk_R "KnowHouse" 221 "l" (sa 131) s := (h A s H g).2.2.2.2.2.2.2.2.2.2.2.2.2.2.2.2.2.2.2.2.2.2.2.1
theorem kESH_24 {G : kGt} {sa : Nat → Nat} {so : kSo} (h : kESH G sa so) {A : Nat → Prop} {s : State} {H : Heap} (g : G A s H) : vk_R "KnowHouse" 223 "named" (sa 132) s := (h A s H g).2.2.2.2.2.2.2.2.2.2.2.2.2.2.2.2.2.2.2.2.2.2.2.2.1
theorem kESH_25 {G : kGt} {sa : Nat → Nat} {so : kSo} (h : kESH G sa so) {A : Nat → Prop} {s : State} {H : Heap} (g : G A s H) : vk_R "KnowHouse" 225 "form" (sa 133) s := (h A s H g).2.2.2.2.2.2.2.2.2.2.2.2.2.2.2.2.2.2.2.2.2.2.2.2.2.1
theorem kESH_26 {G : kGt} {sa : Nat → Nat} {so : kSo} (h : kESH G sa so) {A : Nat → Prop} {s : State} {H : Heap} (g : G A s H) : vk_R "KnowHouse" 227 "hash" (sa 134) s := (h A s H g).2.2.2.2.2.2.2.2.2.2.2.2.2.2.2.2.2.2.2.2.2.2.2.2.2.2.1
theorem kESH_27 {G : kGt} {sa : Nat → Nat} {so : kSo} (h : kESH G sa so) {A : Nat → Prop} {s : State} {H : Heap} (g : G A s H) : vk_R "KnowHouse" 229 "rounds" (sa 135) s := (h A s H g).2.2.2.2.2.2.2.2.2.2.2.2.2.2.2.2.2.2.2.2.2.2.2.2.2.2.2.1
theorem kESH_28 {G : kGt} {sa : Nat → Nat} {so : kSo} (h : kESH G sa so) {A : Nat → Prop} {s : State} {H : Heap} (g : G A s H) : vk_R "KnowHouse" 231 "first" (sa 136) s := (h A s H g).2.2.2.2.2.2.2.2.2.2.2.2.2.2.2.2.2.2.2.2.2.2.2.2.2.2.2.2.1
theorem kESH_29 {G : kGt} {sa : Nat → Nat} {so : kSo} (h : kESH G sa so) {A : Nat → Prop} {s : State} {H : Heap} (g : G A s H) : vk_R "KnowHouse" 233 "keep" (sa 137) s := (h A s H g).2.2.2.2.2.2.2.2.2.2.2.2.2.2.2.2.2.2.2.2.2.2.2.2.2.2.2.2.2.1
theorem kESH_30 {G : kGt} {sa : Nat → Nat} {so : kSo} (h : kESH G sa so) {A : Nat → Prop} {s : State} {H : Heap} (g : G A s H) : vk_R "KnowHouse" 235 "isomorphic" (sa 138) s := (h A s H g).2.2.2.2.2.2.2.2.2.2.2.2.2.2.2.2.2.2.2.2.2.2.2.2.2.2.2.2.2.2.1
theorem kESH_31 {G : kGt} {sa : Nat → Nat} {so : kSo} (h : kESH G sa so) {A : Nat → Prop} {s : State} {H : Heap} (g : G A s H) : vk_R "KnowHouse" 237 "ways" (sa 139) s := (h A s H g).2.2.2.2.2.2.2.2.2.2.2.2.2.2.2.2.2.2.2.2.2.2.2.2.2.2.2.2.2.2.2.1
theorem kESH_32 {G : kGt} {sa : Nat → Nat} {so : kSo} (h : kESH G sa so) {A : Nat → Prop} {s : State} {H : Heap} (g : G A s H) : vk_R "KnowHouse" 239 "equal" (sa 140) s := (h A s H g).2.2.2.2.2.2.2.2.2.2.2.2.2.2.2.2.2.2.2.2.2.2.2.2.2.2.2.2.2.2.2.2.1
theorem kESH_33 {G : kGt} {sa : Nat → Nat} {so : kSo} (h : kESH G sa so) {A : Nat → Prop} {s : State} {H : Heap} (g : G A s H) : vk_R "KnowHouse" 241 "triples" (sa 141) s := (h A s H g).2.2.2.2.2.2.2.2.2.2.2.2.2.2.2.2.2.2.2.2.2.2.2.2.2.2.2.2.2.2.2.2.2.1
theorem kESH_34 {G : kGt} {sa : Nat → Nat} {so : kSo} (h : kESH G sa so) {A : Nat → Prop} {s : State} {H : Heap} (g : G A s H) : vk_R "KnowHouse" 243 "blanks" (sa 142) s := (h A s H g).2.2.2.2.2.2.2.2.2.2.2.2.2.2.2.2.2.2.2.2.2.2.2.2.2.2.2.2.2.2.2.2.2.2.1
theorem kESH_35 {G : kGt} {sa : Nat → Nat} {so : kSo} (h : kESH G sa so) {A : Nat → Prop} {s : State} {H : Heap} (g : G A s H) : vk_R "KnowHouse" 245 "begin" (sa 143) s := (h A s H g).2.2.2.2.2.2.2.2.2.2.2.2.2.2.2.2.2.2.2.2.2.2.2.2.2.2.2.2.2.2.2.2.2.2.2.1
theorem kESH_36 {G : kGt} {sa : Nat → Nat} {so : kSo} (h : kESH G sa so) {A : Nat → Prop} {s : State} {H : Heap} (g : G A s H) : vk_R "KnowHouse" 247 "look" (sa 144) s := (h A s H g).2.2.2.2.2.2.2.2.2.2.2.2.2.2.2.2.2.2.2.2.2.2.2.2.2.2.2.2.2.2.2.2.2.2.2.2.1
theorem kESH_37 {G : kGt} {sa : Nat → Nat} {so : kSo} (h : kESH G sa so) {A : Nat → Prop} {s : State} {H : Heap} (g : G A s H) : vk_R "KnowHouse" 249 "put" (sa 145) s := (h A s H g).2.2.2.2.2.2.2.2.2.2.2.2.2.2.2.2.2.2.2.2.2.2.2.2.2.2.2.2.2.2.2.2.2.2.2.2.2.1
theorem kESH_38 {G : kGt} {sa : Nat → Nat} {so : kSo} (h : kESH G sa so) {A : Nat → Prop} {s : State} {H : Heap} (g : G A s H) : vk_R "KnowHouse" 251 "note" (sa 146) s := (h A s H g).2.2.2.2.2.2.2.2.2.2.2.2.2.2.2.2.2.2.2.2.2.2.2.2.2.2.2.2.2.2.2.2.2.2.2.2.2.2.1
theorem kESH_39 {G : kGt} {sa : Nat → Nat} {so : kSo} (h : kESH G sa so) {A : Nat → Prop} {s : State} {H : Heap} (g : G A s H) : vk_R "KnowHouse" 253 "read" (sa 147) s := (h A s H g).2.2.2.2.2.2.2.2.2.2.2.2.2.2.2.2.2.2.2.2.2.2.2.2.2.2.2.2.2.2.2.2.2.2.2.2.2.2.2.1
theorem kESH_40 {G : kGt} {sa : Nat → Nat} {so : kSo} (h : kESH G sa so) {A : Nat → Prop} {s : State} {H : Heap} (g : G A s H) : vk_R "KnowHouse" 255 "told" (sa 148) s := (h A s H g).2.2.2.2.2.2.2.2.2.2.2.2.2.2.2.2.2.2.2.2.2.2.2.2.2.2.2.2.2.2.2.2.2.2.2.2.2.2.2.2.1
theorem kESH_41 {G : kGt} {sa : Nat → Nat} {so : kSo} (h : kESH G sa so) {A : Nat → Prop} {s : State} {H : Heap} (g : G A s H) : vk_R "KnowHouse" 257 "commit" (sa 149) s := (h A s H g).2.2.2.2.2.2.2.2.2.2.2.2.2.2.2.2.2.2.2.2.2.2.2.2.2.2.2.2.2.2.2.2.2.2.2.2.2.2.2.2.2.1
theorem kESH_42 {G : kGt} {sa : Nat → Nat} {so : kSo} (h : kESH G sa so) {A : Nat → Prop} {s : State} {H : Heap} (g : G A s H) : vk_R "KnowHouse" 259 "abort" (sa 150) s := (h A s H g).2.2.2.2.2.2.2.2.2.2.2.2.2.2.2.2.2.2.2.2.2.2.2.2.2.2.2.2.2.2.2.2.2.2.2.2.2.2.2.2.2.2.1
theorem kESH_43 {G : kGt} {sa : Nat → Nat} {so : kSo} (h : kESH G sa so) {A : Nat → Prop} {s : State} {H : Heap} (g : G A s H) : vk_R "KnowHouse" 261 "pin" (sa 151) s := (h A s H g).2.2.2.2.2.2.2.2.2.2.2.2.2.2.2.2.2.2.2.2.2.2.2.2.2.2.2.2.2.2.2.2.2.2.2.2.2.2.2.2.2.2.2.1
theorem kESH_44 {G : kGt} {sa : Nat → Nat} {so : kSo} (h : kESH G sa so) {A : Nat → Prop} {s : State} {H : Heap} (g : G A s H) : vk_R "KnowHouse" 263 "unpin" (sa 152) s := (h A s H g).2.2.2.2.2.2.2.2.2.2.2.2.2.2.2.2.2.2.2.2.2.2.2.2.2.2.2.2.2.2.2.2.2.2.2.2.2.2.2.2.2.2.2.2.1
theorem kESH_45 {G : kGt} {sa : Nat → Nat} {so : kSo} (h : kESH G sa so) {A : Nat → Prop} {s : State} {H : Heap} (g : G A s H) : vk_R "KnowHouse" 265 "free" (sa 153) s := (h A s H g).2.2.2.2.2.2.2.2.2.2.2.2.2.2.2.2.2.2.2.2.2.2.2.2.2.2.2.2.2.2.2.2.2.2.2.2.2.2.2.2.2.2.2.2.2.1
theorem kESH_46 {G : kGt} {sa : Nat → Nat} {so : kSo} (h : kESH G sa so) {A : Nat → Prop} {s : State} {H : Heap} (g : G A s H) : vk_R "KnowHouse" 267 "rows" (sa 154) s := (h A s H g).2.2.2.2.2.2.2.2.2.2.2.2.2.2.2.2.2.2.2.2.2.2.2.2.2.2.2.2.2.2.2.2.2.2.2.2.2.2.2.2.2.2.2.2.2.2.1
theorem kESH_47 {G : kGt} {sa : Nat → Nat} {so : kSo} (h : kESH G sa so) {A : Nat → Prop} {s : State} {H : Heap} (g : G A s H) : vk_R "KnowHouse" 269 "latest" (sa 155) s := (h A s H g).2.2.2.2.2.2.2.2.2.2.2.2.2.2.2.2.2.2.2.2.2.2.2.2.2.2.2.2.2.2.2.2.2.2.2.2.2.2.2.2.2.2.2.2.2.2.2.1
theorem kESH_48 {G : kGt} {sa : Nat → Nat} {so : kSo} (h : kESH G sa so) {A : Nat → Prop} {s : State} {H : Heap} (g : G A s H) : vk_R "KnowHouse" 271 "least" (sa 156) s := (h A s H g).2.2.2.2.2.2.2.2.2.2.2.2.2.2.2.2.2.2.2.2.2.2.2.2.2.2.2.2.2.2.2.2.2.2.2.2.2.2.2.2.2.2.2.2.2.2.2.2.1
theorem kESH_49 {G : kGt} {sa : Nat → Nat} {so : kSo} (h : kESH G sa so) {A : Nat → Prop} {s : State} {H : Heap} (g : G A s H) : vk_R "KnowHouse" 273 "state" (sa 157) s := (h A s H g).2.2.2.2.2.2.2.2.2.2.2.2.2.2.2.2.2.2.2.2.2.2.2.2.2.2.2.2.2.2.2.2.2.2.2.2.2.2.2.2.2.2.2.2.2.2.2.2.2.1
theorem kESH_50 {G : kGt} {sa : Nat → Nat} {so : kSo} (h : kESH G sa so) {A : Nat → Prop} {s : State} {H : Heap} (g : G A s H) : vk_R "KnowHouse" 275 "waits" (sa 158) s := (h A s H g).2.2.2.2.2.2.2.2.2.2.2.2.2.2.2.2.2.2.2.2.2.2.2.2.2.2.2.2.2.2.2.2.2.2.2.2.2.2.2.2.2.2.2.2.2.2.2.2.2.2.1
theorem kESH_51 {G : kGt} {sa : Nat → Nat} {so : kSo} (h : kESH G sa so) {A : Nat → Prop} {s : State} {H : Heap} (g : G A s H) : vk_R "KnowHouse" 277 "ring" (sa 159) s := (h A s H g).2.2.2.2.2.2.2.2.2.2.2.2.2.2.2.2.2.2.2.2.2.2.2.2.2.2.2.2.2.2.2.2.2.2.2.2.2.2.2.2.2.2.2.2.2.2.2.2.2.2.2.1
theorem kESH_52 {G : kGt} {sa : Nat → Nat} {so : kSo} (h : kESH G sa so) {A : Nat → Prop} {s : State} {H : Heap} (g : G A s H) : vk_R "KnowHouse" 279 "conflicts" (sa 160) s := (h A s H g).2.2.2.2.2.2.2.2.2.2.2.2.2.2.2.2.2.2.2.2.2.2.2.2.2.2.2.2.2.2.2.2.2.2.2.2.2.2.2.2.2.2.2.2.2.2.2.2.2.2.2.2.1
theorem kESH_53 {G : kGt} {sa : Nat → Nat} {so : kSo} (h : kESH G sa so) {A : Nat → Prop} {s : State} {H : Heap} (g : G A s H) : vk_R "KnowHouse" 281 "type" (sa 161) s := (h A s H g).2.2.2.2.2.2.2.2.2.2.2.2.2.2.2.2.2.2.2.2.2.2.2.2.2.2.2.2.2.2.2.2.2.2.2.2.2.2.2.2.2.2.2.2.2.2.2.2.2.2.2.2.2.1
theorem kESH_54 {G : kGt} {sa : Nat → Nat} {so : kSo} (h : kESH G sa so) {A : Nat → Prop} {s : State} {H : Heap} (g : G A s H) : vk_R "KnowHouse" 283 "li" (sa 162) s := (h A s H g).2.2.2.2.2.2.2.2.2.2.2.2.2.2.2.2.2.2.2.2.2.2.2.2.2.2.2.2.2.2.2.2.2.2.2.2.2.2.2.2.2.2.2.2.2.2.2.2.2.2.2.2.2.2.1
theorem kESH_55 {G : kGt} {sa : Nat → Nat} {so : kSo} (h : kESH G sa so) {A : Nat → Prop} {s : State} {H : Heap} (g : G A s H) : vk_R "KnowHouse" 135 "values" (sa 103) s := (h A s H g).2.2.2.2.2.2.2.2.2.2.2.2.2.2.2.2.2.2.2.2.2.2.2.2.2.2.2.2.2.2.2.2.2.2.2.2.2.2.2.2.2.2.2.2.2.2.2.2.2.2.2.2.2.2.2.1
theorem kESH_56 {G : kGt} {sa : Nat → Nat} {so : kSo} (h : kESH G sa so) {A : Nat → Prop} {s : State} {H : Heap} (g : G A s H) : vk_R "KnowHouse" 285 "kind" (sa 163) s := (h A s H g).2.2.2.2.2.2.2.2.2.2.2.2.2.2.2.2.2.2.2.2.2.2.2.2.2.2.2.2.2.2.2.2.2.2.2.2.2.2.2.2.2.2.2.2.2.2.2.2.2.2.2.2.2.2.2.2.1
theorem kESH_57 {G : kGt} {sa : Nat → Nat} {so : kSo} (h : kESH G sa so) {A : Nat → Prop} {s : State} {H : Heap} (g : G A s H) : vk_R "KnowHouse" 287 "compare" (sa 164) s := (h A s H g).2.2.2.2.2.2.2.2.2.2.2.2.2.2.2.2.2.2.2.2.2.2.2.2.2.2.2.2.2.2.2.2.2.2.2.2.2.2.2.2.2.2.2.2.2.2.2.2.2.2.2.2.2.2.2.2.2.1
theorem kESH_58 {G : kGt} {sa : Nat → Nat} {so : kSo} (h : kESH G sa so) {A : Nat → Prop} {s : State} {H : Heap} (g : G A s H) : vk_R "KnowHouse" 289 "part" (sa 165) s := (h A s H g).2.2.2.2.2.2.2.2.2.2.2.2.2.2.2.2.2.2.2.2.2.2.2.2.2.2.2.2.2.2.2.2.2.2.2.2.2.2.2.2.2.2.2.2.2.2.2.2.2.2.2.2.2.2.2.2.2.2.1
theorem kESH_59 {G : kGt} {sa : Nat → Nat} {so : kSo} (h : kESH G sa so) {A : Nat → Prop} {s : State} {H : Heap} (g : G A s H) : vk_R "KnowHouse" 291 "byteOf" (sa 166) s := (h A s H g).2.2.2.2.2.2.2.2.2.2.2.2.2.2.2.2.2.2.2.2.2.2.2.2.2.2.2.2.2.2.2.2.2.2.2.2.2.2.2.2.2.2.2.2.2.2.2.2.2.2.2.2.2.2.2.2.2.2.2.1
theorem kESH_60 {G : kGt} {sa : Nat → Nat} {so : kSo} (h : kESH G sa so) {A : Nat → Prop} {s : State} {H : Heap} (g : G A s H) : vk_R "KnowHouse" 293 "tell" (sa 167) s := (h A s H g).2.2.2.2.2.2.2.2.2.2.2.2.2.2.2.2.2.2.2.2.2.2.2.2.2.2.2.2.2.2.2.2.2.2.2.2.2.2.2.2.2.2.2.2.2.2.2.2.2.2.2.2.2.2.2.2.2.2.2.2.1
theorem kESH_61 {G : kGt} {sa : Nat → Nat} {so : kSo} (h : kESH G sa so) {A : Nat → Prop} {s : State} {H : Heap} (g : G A s H) : vk_R "KnowHouse" 295 "apply" (sa 168) s := (h A s H g).2.2.2.2.2.2.2.2.2.2.2.2.2.2.2.2.2.2.2.2.2.2.2.2.2.2.2.2.2.2.2.2.2.2.2.2.2.2.2.2.2.2.2.2.2.2.2.2.2.2.2.2.2.2.2.2.2.2.2.2.2.1
theorem kESH_62 {G : kGt} {sa : Nat → Nat} {so : kSo} (h : kESH G sa so) {A : Nat → Prop} {s : State} {H : Heap} (g : G A s H) : vk_R "KnowHouse" 297 "axiom" (sa 169) s := (h A s H g).2.2.2.2.2.2.2.2.2.2.2.2.2.2.2.2.2.2.2.2.2.2.2.2.2.2.2.2.2.2.2.2.2.2.2.2.2.2.2.2.2.2.2.2.2.2.2.2.2.2.2.2.2.2.2.2.2.2.2.2.2.2.1
theorem kESH_63 {G : kGt} {sa : Nat → Nat} {so : kSo} (h : kESH G sa so) {A : Nat → Prop} {s : State} {H : Heap} (g : G A s H) : vk_R "KnowHouse" 299 "row" (sa 170) s := (h A s H g).2.2.2.2.2.2.2.2.2.2.2.2.2.2.2.2.2.2.2.2.2.2.2.2.2.2.2.2.2.2.2.2.2.2.2.2.2.2.2.2.2.2.2.2.2.2.2.2.2.2.2.2.2.2.2.2.2.2.2.2.2.2.2.1
theorem kESH_64 {G : kGt} {sa : Nat → Nat} {so : kSo} (h : kESH G sa so) {A : Nat → Prop} {s : State} {H : Heap} (g : G A s H) : vk_R "KnowHouse" 301 "premise" (sa 171) s := (h A s H g).2.2.2.2.2.2.2.2.2.2.2.2.2.2.2.2.2.2.2.2.2.2.2.2.2.2.2.2.2.2.2.2.2.2.2.2.2.2.2.2.2.2.2.2.2.2.2.2.2.2.2.2.2.2.2.2.2.2.2.2.2.2.2.2.1
theorem kESH_65 {G : kGt} {sa : Nat → Nat} {so : kSo} (h : kESH G sa so) {A : Nat → Prop} {s : State} {H : Heap} (g : G A s H) : vk_R "KnowHouse" 303 "check" (sa 172) s := (h A s H g).2.2.2.2.2.2.2.2.2.2.2.2.2.2.2.2.2.2.2.2.2.2.2.2.2.2.2.2.2.2.2.2.2.2.2.2.2.2.2.2.2.2.2.2.2.2.2.2.2.2.2.2.2.2.2.2.2.2.2.2.2.2.2.2.2.1
theorem kESH_66 {G : kGt} {sa : Nat → Nat} {so : kSo} (h : kESH G sa so) {A : Nat → Prop} {s : State} {H : Heap} (g : G A s H) : vk_R "KnowHouse" 305 "broken" (sa 173) s := (h A s H g).2.2.2.2.2.2.2.2.2.2.2.2.2.2.2.2.2.2.2.2.2.2.2.2.2.2.2.2.2.2.2.2.2.2.2.2.2.2.2.2.2.2.2.2.2.2.2.2.2.2.2.2.2.2.2.2.2.2.2.2.2.2.2.2.2.2.1
theorem kESH_67 {G : kGt} {sa : Nat → Nat} {so : kSo} (h : kESH G sa so) {A : Nat → Prop} {s : State} {H : Heap} (g : G A s H) : vk_R "KnowHouse" 307 "size" (sa 174) s := (h A s H g).2.2.2.2.2.2.2.2.2.2.2.2.2.2.2.2.2.2.2.2.2.2.2.2.2.2.2.2.2.2.2.2.2.2.2.2.2.2.2.2.2.2.2.2.2.2.2.2.2.2.2.2.2.2.2.2.2.2.2.2.2.2.2.2.2.2.2.1
theorem kESH_68 {G : kGt} {sa : Nat → Nat} {so : kSo} (h : kESH G sa so) {A : Nat → Prop} {s : State} {H : Heap} (g : G A s H) : vk_R "KnowHouse" 309 "states" (sa 175) s := (h A s H g).2.2.2.2.2.2.2.2.2.2.2.2.2.2.2.2.2.2.2.2.2.2.2.2.2.2.2.2.2.2.2.2.2.2.2.2.2.2.2.2.2.2.2.2.2.2.2.2.2.2.2.2.2.2.2.2.2.2.2.2.2.2.2.2.2.2.2.2.1
theorem kESH_69 {G : kGt} {sa : Nat → Nat} {so : kSo} (h : kESH G sa so) {A : Nat → Prop} {s : State} {H : Heap} (g : G A s H) : vk_R "KnowHouse" 311 "sentence" (sa 176) s := (h A s H g).2.2.2.2.2.2.2.2.2.2.2.2.2.2.2.2.2.2.2.2.2.2.2.2.2.2.2.2.2.2.2.2.2.2.2.2.2.2.2.2.2.2.2.2.2.2.2.2.2.2.2.2.2.2.2.2.2.2.2.2.2.2.2.2.2.2.2.2.2.1
theorem kESH_70 {G : kGt} {sa : Nat → Nat} {so : kSo} (h : kESH G sa so) {A : Nat → Prop} {s : State} {H : Heap} (g : G A s H) : vk_R "KnowHouse" 313 "at" (sa 177) s := (h A s H g).2.2.2.2.2.2.2.2.2.2.2.2.2.2.2.2.2.2.2.2.2.2.2.2.2.2.2.2.2.2.2.2.2.2.2.2.2.2.2.2.2.2.2.2.2.2.2.2.2.2.2.2.2.2.2.2.2.2.2.2.2.2.2.2.2.2.2.2.2.2.1
theorem kESH_71 {G : kGt} {sa : Nat → Nat} {so : kSo} (h : kESH G sa so) {A : Nat → Prop} {s : State} {H : Heap} (g : G A s H) : vk_R "KnowHouse" 315 "concludes" (sa 178) s := (h A s H g).2.2.2.2.2.2.2.2.2.2.2.2.2.2.2.2.2.2.2.2.2.2.2.2.2.2.2.2.2.2.2.2.2.2.2.2.2.2.2.2.2.2.2.2.2.2.2.2.2.2.2.2.2.2.2.2.2.2.2.2.2.2.2.2.2.2.2.2.2.2.2.1
theorem kESH_72 {G : kGt} {sa : Nat → Nat} {so : kSo} (h : kESH G sa so) {A : Nat → Prop} {s : State} {H : Heap} (g : G A s H) : vk_R "KnowHouse" 317 "member" (sa 179) s := (h A s H g).2.2.2.2.2.2.2.2.2.2.2.2.2.2.2.2.2.2.2.2.2.2.2.2.2.2.2.2.2.2.2.2.2.2.2.2.2.2.2.2.2.2.2.2.2.2.2.2.2.2.2.2.2.2.2.2.2.2.2.2.2.2.2.2.2.2.2.2.2.2.2.2.1
theorem kESH_73 {G : kGt} {sa : Nat → Nat} {so : kSo} (h : kESH G sa so) {A : Nat → Prop} {s : State} {H : Heap} (g : G A s H) : vk_R "KnowHouse" 319 "condition" (sa 180) s := (h A s H g).2.2.2.2.2.2.2.2.2.2.2.2.2.2.2.2.2.2.2.2.2.2.2.2.2.2.2.2.2.2.2.2.2.2.2.2.2.2.2.2.2.2.2.2.2.2.2.2.2.2.2.2.2.2.2.2.2.2.2.2.2.2.2.2.2.2.2.2.2.2.2.2.2.1
theorem kESH_74 {G : kGt} {sa : Nat → Nat} {so : kSo} (h : kESH G sa so) {A : Nat → Prop} {s : State} {H : Heap} (g : G A s H) : vk_R "KnowHouse" 321 "iiii" (sa 181) s := (h A s H g).2.2.2.2.2.2.2.2.2.2.2.2.2.2.2.2.2.2.2.2.2.2.2.2.2.2.2.2.2.2.2.2.2.2.2.2.2.2.2.2.2.2.2.2.2.2.2.2.2.2.2.2.2.2.2.2.2.2.2.2.2.2.2.2.2.2.2.2.2.2.2.2.2.2.1
theorem kESH_75 {G : kGt} {sa : Nat → Nat} {so : kSo} (h : kESH G sa so) {A : Nat → Prop} {s : State} {H : Heap} (g : G A s H) : vk_R "KnowHouse" 323 "rule" (sa 182) s := (h A s H g).2.2.2.2.2.2.2.2.2.2.2.2.2.2.2.2.2.2.2.2.2.2.2.2.2.2.2.2.2.2.2.2.2.2.2.2.2.2.2.2.2.2.2.2.2.2.2.2.2.2.2.2.2.2.2.2.2.2.2.2.2.2.2.2.2.2.2.2.2.2.2.2.2.2.2.1
theorem kESH_76 {G : kGt} {sa : Nat → Nat} {so : kSo} (h : kESH G sa so) {A : Nat → Prop} {s : State} {H : Heap} (g : G A s H) : vk_R "KnowHouse" 325 "ibi" (sa 183) s := (h A s H g).2.2.2.2.2.2.2.2.2.2.2.2.2.2.2.2.2.2.2.2.2.2.2.2.2.2.2.2.2.2.2.2.2.2.2.2.2.2.2.2.2.2.2.2.2.2.2.2.2.2.2.2.2.2.2.2.2.2.2.2.2.2.2.2.2.2.2.2.2.2.2.2.2.2.2.2.1
theorem kESH_77 {G : kGt} {sa : Nat → Nat} {so : kSo} (h : kESH G sa so) {A : Nat → Prop} {s : State} {H : Heap} (g : G A s H) : vk_R "KnowHouse" 327 "may" (sa 184) s := (h A s H g).2.2.2.2.2.2.2.2.2.2.2.2.2.2.2.2.2.2.2.2.2.2.2.2.2.2.2.2.2.2.2.2.2.2.2.2.2.2.2.2.2.2.2.2.2.2.2.2.2.2.2.2.2.2.2.2.2.2.2.2.2.2.2.2.2.2.2.2.2.2.2.2.2.2.2.2.2.1
theorem kESH_78 {G : kGt} {sa : Nat → Nat} {so : kSo} (h : kESH G sa so) {A : Nat → Prop} {s : State} {H : Heap} (g : G A s H) : vk_R "KnowHouse" 329 "iiiiii" (sa 185) s := (h A s H g).2.2.2.2.2.2.2.2.2.2.2.2.2.2.2.2.2.2.2.2.2.2.2.2.2.2.2.2.2.2.2.2.2.2.2.2.2.2.2.2.2.2.2.2.2.2.2.2.2.2.2.2.2.2.2.2.2.2.2.2.2.2.2.2.2.2.2.2.2.2.2.2.2.2.2.2.2.2.1
theorem kESH_79 {G : kGt} {sa : Nat → Nat} {so : kSo} (h : kESH G sa so) {A : Nat → Prop} {s : State} {H : Heap} (g : G A s H) : vk_R "KnowHouse" 331 "asks" (sa 186) s := (h A s H g).2.2.2.2.2.2.2.2.2.2.2.2.2.2.2.2.2.2.2.2.2.2.2.2.2.2.2.2.2.2.2.2.2.2.2.2.2.2.2.2.2.2.2.2.2.2.2.2.2.2.2.2.2.2.2.2.2.2.2.2.2.2.2.2.2.2.2.2.2.2.2.2.2.2.2.2.2.2.2.1
theorem kESH_80 {G : kGt} {sa : Nat → Nat} {so : kSo} (h : kESH G sa so) {A : Nat → Prop} {s : State} {H : Heap} (g : G A s H) : vk_R "KnowHouse" 333 "ask" (sa 187) s := (h A s H g).2.2.2.2.2.2.2.2.2.2.2.2.2.2.2.2.2.2.2.2.2.2.2.2.2.2.2.2.2.2.2.2.2.2.2.2.2.2.2.2.2.2.2.2.2.2.2.2.2.2.2.2.2.2.2.2.2.2.2.2.2.2.2.2.2.2.2.2.2.2.2.2.2.2.2.2.2.2.2.2.1
theorem kESH_81 {G : kGt} {sa : Nat → Nat} {so : kSo} (h : kESH G sa so) {A : Nat → Prop} {s : State} {H : Heap} (g : G A s H) : vk_R "KnowHouse" 335 "within" (sa 188) s := (h A s H g).2.2.2.2.2.2.2.2.2.2.2.2.2.2.2.2.2.2.2.2.2.2.2.2.2.2.2.2.2.2.2.2.2.2.2.2.2.2.2.2.2.2.2.2.2.2.2.2.2.2.2.2.2.2.2.2.2.2.2.2.2.2.2.2.2.2.2.2.2.2.2.2.2.2.2.2.2.2.2.2.2.1
theorem kESH_82 {G : kGt} {sa : Nat → Nat} {so : kSo} (h : kESH G sa so) {A : Nat → Prop} {s : State} {H : Heap} (g : G A s H) : vk_R "KnowHouse" 337 "decides" (sa 189) s := (h A s H g).2.2.2.2.2.2.2.2.2.2.2.2.2.2.2.2.2.2.2.2.2.2.2.2.2.2.2.2.2.2.2.2.2.2.2.2.2.2.2.2.2.2.2.2.2.2.2.2.2.2.2.2.2.2.2.2.2.2.2.2.2.2.2.2.2.2.2.2.2.2.2.2.2.2.2.2.2.2.2.2.2.2.1
theorem kESH_83 {G : kGt} {sa : Nat → Nat} {so : kSo} (h : kESH G sa so) {A : Nat → Prop} {s : State} {H : Heap} (g : G A s H) : vk_R "KnowHouse" 339 "sees" (sa 190) s := (h A s H g).2.2.2.2.2.2.2.2.2.2.2.2.2.2.2.2.2.2.2.2.2.2.2.2.2.2.2.2.2.2.2.2.2.2.2.2.2.2.2.2.2.2.2.2.2.2.2.2.2.2.2.2.2.2.2.2.2.2.2.2.2.2.2.2.2.2.2.2.2.2.2.2.2.2.2.2.2.2.2.2.2.2.2.1
theorem kESH_84 {G : kGt} {sa : Nat → Nat} {so : kSo} (h : kESH G sa so) {A : Nat → Prop} {s : State} {H : Heap} (g : G A s H) : vk_R "KnowHouse" 341 "matters" (sa 191) s := (h A s H g).2.2.2.2.2.2.2.2.2.2.2.2.2.2.2.2.2.2.2.2.2.2.2.2.2.2.2.2.2.2.2.2.2.2.2.2.2.2.2.2.2.2.2.2.2.2.2.2.2.2.2.2.2.2.2.2.2.2.2.2.2.2.2.2.2.2.2.2.2.2.2.2.2.2.2.2.2.2.2.2.2.2.2.2.1
theorem kESH_85 {G : kGt} {sa : Nat → Nat} {so : kSo} (h : kESH G sa so) {A : Nat → Prop} {s : State} {H : Heap} (g : G A s H) : vk_R "KnowHouse" 343 "idle" (sa 192) s := (h A s H g).2.2.2.2.2.2.2.2.2.2.2.2.2.2.2.2.2.2.2.2.2.2.2.2.2.2.2.2.2.2.2.2.2.2.2.2.2.2.2.2.2.2.2.2.2.2.2.2.2.2.2.2.2.2.2.2.2.2.2.2.2.2.2.2.2.2.2.2.2.2.2.2.2.2.2.2.2.2.2.2.2.2.2.2.2.1
theorem kESH_86 {G : kGt} {sa : Nat → Nat} {so : kSo} (h : kESH G sa so) {A : Nat → Prop} {s : State} {H : Heap} (g : G A s H) : vk_R "KnowHouse" 345 "bi" (sa 193) s := (h A s H g).2.2.2.2.2.2.2.2.2.2.2.2.2.2.2.2.2.2.2.2.2.2.2.2.2.2.2.2.2.2.2.2.2.2.2.2.2.2.2.2.2.2.2.2.2.2.2.2.2.2.2.2.2.2.2.2.2.2.2.2.2.2.2.2.2.2.2.2.2.2.2.2.2.2.2.2.2.2.2.2.2.2.2.2.2.2.1
theorem kESH_87 {G : kGt} {sa : Nat → Nat} {so : kSo} (h : kESH G sa so) {A : Nat → Prop} {s : State} {H : Heap} (g : G A s H) : vk_R "KnowHouse" 347 "apart" (sa 194) s := (h A s H g).2.2.2.2.2.2.2.2.2.2.2.2.2.2.2.2.2.2.2.2.2.2.2.2.2.2.2.2.2.2.2.2.2.2.2.2.2.2.2.2.2.2.2.2.2.2.2.2.2.2.2.2.2.2.2.2.2.2.2.2.2.2.2.2.2.2.2.2.2.2.2.2.2.2.2.2.2.2.2.2.2.2.2.2.2.2.2.1
theorem kESH_88 {G : kGt} {sa : Nat → Nat} {so : kSo} (h : kESH G sa so) {A : Nat → Prop} {s : State} {H : Heap} (g : G A s H) : vk_R "KnowHouse" 349 "allowed" (sa 195) s := (h A s H g).2.2.2.2.2.2.2.2.2.2.2.2.2.2.2.2.2.2.2.2.2.2.2.2.2.2.2.2.2.2.2.2.2.2.2.2.2.2.2.2.2.2.2.2.2.2.2.2.2.2.2.2.2.2.2.2.2.2.2.2.2.2.2.2.2.2.2.2.2.2.2.2.2.2.2.2.2.2.2.2.2.2.2.2.2.2.2.2.1
theorem kESH_89 {G : kGt} {sa : Nat → Nat} {so : kSo} (h : kESH G sa so) {A : Nat → Prop} {s : State} {H : Heap} (g : G A s H) : vk_R "KnowHouse" 351 "conditions" (sa 196) s := (h A s H g).2.2.2.2.2.2.2.2.2.2.2.2.2.2.2.2.2.2.2.2.2.2.2.2.2.2.2.2.2.2.2.2.2.2.2.2.2.2.2.2.2.2.2.2.2.2.2.2.2.2.2.2.2.2.2.2.2.2.2.2.2.2.2.2.2.2.2.2.2.2.2.2.2.2.2.2.2.2.2.2.2.2.2.2.2.2.2.2.2.1
theorem kESH_90 {G : kGt} {sa : Nat → Nat} {so : kSo} (h : kESH G sa so) {A : Nat → Prop} {s : State} {H : Heap} (g : G A s H) : vk_R "KnowHouse" 141 "rules" (sa 109) s := (h A s H g).2.2.2.2.2.2.2.2.2.2.2.2.2.2.2.2.2.2.2.2.2.2.2.2.2.2.2.2.2.2.2.2.2.2.2.2.2.2.2.2.2.2.2.2.2.2.2.2.2.2.2.2.2.2.2.2.2.2.2.2.2.2.2.2.2.2.2.2.2.2.2.2.2.2.2.2.2.2.2.2.2.2.2.2.2.2.2.2.2.2.1
theorem kESH_91 {G : kGt} {sa : Nat → Nat} {so : kSo} (h : kESH G sa so) {A : Nat → Prop} {s : State} {H : Heap} (g : G A s H) : vk_R "KnowHouse" 353 "class0" (sa 197) s := (h A s H g).2.2.2.2.2.2.2.2.2.2.2.2.2.2.2.2.2.2.2.2.2.2.2.2.2.2.2.2.2.2.2.2.2.2.2.2.2.2.2.2.2.2.2.2.2.2.2.2.2.2.2.2.2.2.2.2.2.2.2.2.2.2.2.2.2.2.2.2.2.2.2.2.2.2.2.2.2.2.2.2.2.2.2.2.2.2.2.2.2.2.2.1
theorem kESH_92 {G : kGt} {sa : Nat → Nat} {so : kSo} (h : kESH G sa so) {A : Nat → Prop} {s : State} {H : Heap} (g : G A s H) : vk_R "KnowHouse" 355 "thing" (sa 198) s := (h A s H g).2.2.2.2.2.2.2.2.2.2.2.2.2.2.2.2.2.2.2.2.2.2.2.2.2.2.2.2.2.2.2.2.2.2.2.2.2.2.2.2.2.2.2.2.2.2.2.2.2.2.2.2.2.2.2.2.2.2.2.2.2.2.2.2.2.2.2.2.2.2.2.2.2.2.2.2.2.2.2.2.2.2.2.2.2.2.2.2.2.2.2.2.1
theorem kESH_93 {G : kGt} {sa : Nat → Nat} {so : kSo} (h : kESH G sa so) {A : Nat → Prop} {s : State} {H : Heap} (g : G A s H) : vk_R "KnowHouse" 357 "remove" (sa 199) s := (h A s H g).2.2.2.2.2.2.2.2.2.2.2.2.2.2.2.2.2.2.2.2.2.2.2.2.2.2.2.2.2.2.2.2.2.2.2.2.2.2.2.2.2.2.2.2.2.2.2.2.2.2.2.2.2.2.2.2.2.2.2.2.2.2.2.2.2.2.2.2.2.2.2.2.2.2.2.2.2.2.2.2.2.2.2.2.2.2.2.2.2.2.2.2.2.1
theorem kESH_94 {G : kGt} {sa : Nat → Nat} {so : kSo} (h : kESH G sa so) {A : Nat → Prop} {s : State} {H : Heap} (g : G A s H) : vk_R "KnowHouse" 359 "fuel" (sa 200) s := (h A s H g).2.2.2.2.2.2.2.2.2.2.2.2.2.2.2.2.2.2.2.2.2.2.2.2.2.2.2.2.2.2.2.2.2.2.2.2.2.2.2.2.2.2.2.2.2.2.2.2.2.2.2.2.2.2.2.2.2.2.2.2.2.2.2.2.2.2.2.2.2.2.2.2.2.2.2.2.2.2.2.2.2.2.2.2.2.2.2.2.2.2.2.2.2.2.1
theorem kESH_95 {G : kGt} {sa : Nat → Nat} {so : kSo} (h : kESH G sa so) {A : Nat → Prop} {s : State} {H : Heap} (g : G A s H) : vk_R "KnowHouse" 361 "known" (sa 201) s := (h A s H g).2.2.2.2.2.2.2.2.2.2.2.2.2.2.2.2.2.2.2.2.2.2.2.2.2.2.2.2.2.2.2.2.2.2.2.2.2.2.2.2.2.2.2.2.2.2.2.2.2.2.2.2.2.2.2.2.2.2.2.2.2.2.2.2.2.2.2.2.2.2.2.2.2.2.2.2.2.2.2.2.2.2.2.2.2.2.2.2.2.2.2.2.2.2.2.1
theorem kESH_96 {G : kGt} {sa : Nat → Nat} {so : kSo} (h : kESH G sa so) {A : Nat → Prop} {s : State} {H : Heap} (g : G A s H) : vk_R "KnowHouse" 363 "run" (sa 202) s := (h A s H g).2.2.2.2.2.2.2.2.2.2.2.2.2.2.2.2.2.2.2.2.2.2.2.2.2.2.2.2.2.2.2.2.2.2.2.2.2.2.2.2.2.2.2.2.2.2.2.2.2.2.2.2.2.2.2.2.2.2.2.2.2.2.2.2.2.2.2.2.2.2.2.2.2.2.2.2.2.2.2.2.2.2.2.2.2.2.2.2.2.2.2.2.2.2.2.2.1
theorem kESH_97 {G : kGt} {sa : Nat → Nat} {so : kSo} (h : kESH G sa so) {A : Nat → Prop} {s : State} {H : Heap} (g : G A s H) : vk_R "KnowHouse" 365 "parent" (sa 203) s := (h A s H g).2.2.2.2.2.2.2.2.2.2.2.2.2.2.2.2.2.2.2.2.2.2.2.2.2.2.2.2.2.2.2.2.2.2.2.2.2.2.2.2.2.2.2.2.2.2.2.2.2.2.2.2.2.2.2.2.2.2.2.2.2.2.2.2.2.2.2.2.2.2.2.2.2.2.2.2.2.2.2.2.2.2.2.2.2.2.2.2.2.2.2.2.2.2.2.2.2.1
theorem kESH_98 {G : kGt} {sa : Nat → Nat} {so : kSo} (h : kESH G sa so) {A : Nat → Prop} {s : State} {H : Heap} (g : G A s H) : vk_R "KnowHouse" 367 "child" (sa 204) s := (h A s H g).2.2.2.2.2.2.2.2.2.2.2.2.2.2.2.2.2.2.2.2.2.2.2.2.2.2.2.2.2.2.2.2.2.2.2.2.2.2.2.2.2.2.2.2.2.2.2.2.2.2.2.2.2.2.2.2.2.2.2.2.2.2.2.2.2.2.2.2.2.2.2.2.2.2.2.2.2.2.2.2.2.2.2.2.2.2.2.2.2.2.2.2.2.2.2.2.2.2.1
theorem kESH_99 {G : kGt} {sa : Nat → Nat} {so : kSo} (h : kESH G sa so) {A : Nat → Prop} {s : State} {H : Heap} (g : G A s H) : vk_R "KnowHouse" 369 "empty" (sa 205) s := (h A s H g).2.2.2.2.2.2.2.2.2.2.2.2.2.2.2.2.2.2.2.2.2.2.2.2.2.2.2.2.2.2.2.2.2.2.2.2.2.2.2.2.2.2.2.2.2.2.2.2.2.2.2.2.2.2.2.2.2.2.2.2.2.2.2.2.2.2.2.2.2.2.2.2.2.2.2.2.2.2.2.2.2.2.2.2.2.2.2.2.2.2.2.2.2.2.2.2.2.2.2.1
theorem kESH_100 {G : kGt} {sa : Nat → Nat} {so : kSo} (h : kESH G sa so) {A : Nat → Prop} {s : State} {H : Heap} (g : G A s H) : vk_R "KnowHouse" 371 "open" (sa 206) s := (h A s H g).2.2.2.2.2.2.2.2.2.2.2.2.2.2.2.2.2.2.2.2.2.2.2.2.2.2.2.2.2.2.2.2.2.2.2.2.2.2.2.2.2.2.2.2.2.2.2.2.2.2.2.2.2.2.2.2.2.2.2.2.2.2.2.2.2.2.2.2.2.2.2.2.2.2.2.2.2.2.2.2.2.2.2.2.2.2.2.2.2.2.2.2.2.2.2.2.2.2.2.2.1
theorem kESH_101 {G : kGt} {sa : Nat → Nat} {so : kSo} (h : kESH G sa so) {A : Nat → Prop} {s : State} {H : Heap} (g : G A s H) : vk_R "KnowHouse" 373 "trace" (sa 207) s := (h A s H g).2.2.2.2.2.2.2.2.2.2.2.2.2.2.2.2.2.2.2.2.2.2.2.2.2.2.2.2.2.2.2.2.2.2.2.2.2.2.2.2.2.2.2.2.2.2.2.2.2.2.2.2.2.2.2.2.2.2.2.2.2.2.2.2.2.2.2.2.2.2.2.2.2.2.2.2.2.2.2.2.2.2.2.2.2.2.2.2.2.2.2.2.2.2.2.2.2.2.2.2.2.1
theorem kESH_102 {G : kGt} {sa : Nat → Nat} {so : kSo} (h : kESH G sa so) {A : Nat → Prop} {s : State} {H : Heap} (g : G A s H) : vk_R "KnowHouse" 375 "count" (sa 208) s := (h A s H g).2.2.2.2.2.2.2.2.2.2.2.2.2.2.2.2.2.2.2.2.2.2.2.2.2.2.2.2.2.2.2.2.2.2.2.2.2.2.2.2.2.2.2.2.2.2.2.2.2.2.2.2.2.2.2.2.2.2.2.2.2.2.2.2.2.2.2.2.2.2.2.2.2.2.2.2.2.2.2.2.2.2.2.2.2.2.2.2.2.2.2.2.2.2.2.2.2.2.2.2.2.2.1
theorem kESH_103 {G : kGt} {sa : Nat → Nat} {so : kSo} (h : kESH G sa so) {A : Nat → Prop} {s : State} {H : Heap} (g : G A s H) : vk_R "KnowHouse" 377 "above" (sa 209) s := (h A s H g).2.2.2.2.2.2.2.2.2.2.2.2.2.2.2.2.2.2.2.2.2.2.2.2.2.2.2.2.2.2.2.2.2.2.2.2.2.2.2.2.2.2.2.2.2.2.2.2.2.2.2.2.2.2.2.2.2.2.2.2.2.2.2.2.2.2.2.2.2.2.2.2.2.2.2.2.2.2.2.2.2.2.2.2.2.2.2.2.2.2.2.2.2.2.2.2.2.2.2.2.2.2.2.1
theorem kESH_104 {G : kGt} {sa : Nat → Nat} {so : kSo} (h : kESH G sa so) {A : Nat → Prop} {s : State} {H : Heap} (g : G A s H) : vk_R "KnowHouse" 379 "choose" (sa 210) s := (h A s H g).2.2.2.2.2.2.2.2.2.2.2.2.2.2.2.2.2.2.2.2.2.2.2.2.2.2.2.2.2.2.2.2.2.2.2.2.2.2.2.2.2.2.2.2.2.2.2.2.2.2.2.2.2.2.2.2.2.2.2.2.2.2.2.2.2.2.2.2.2.2.2.2.2.2.2.2.2.2.2.2.2.2.2.2.2.2.2.2.2.2.2.2.2.2.2.2.2.2.2.2.2.2.2.2.1
theorem kESH_105 {G : kGt} {sa : Nat → Nat} {so : kSo} (h : kESH G sa so) {A : Nat → Prop} {s : State} {H : Heap} (g : G A s H) : vk_R "KnowHouse" 381 "kept" (sa 211) s := (h A s H g).2.2.2.2.2.2.2.2.2.2.2.2.2.2.2.2.2.2.2.2.2.2.2.2.2.2.2.2.2.2.2.2.2.2.2.2.2.2.2.2.2.2.2.2.2.2.2.2.2.2.2.2.2.2.2.2.2.2.2.2.2.2.2.2.2.2.2.2.2.2.2.2.2.2.2.2.2.2.2.2.2.2.2.2.2.2.2.2.2.2.2.2.2.2.2.2.2.2.2.2.2.2.2.2.2.1
theorem kESH_106 {G : kGt} {sa : Nat → Nat} {so : kSo} (h : kESH G sa so) {A : Nat → Prop} {s : State} {H : Heap} (g : G A s H) : vk_R "KnowHouse" 383 "isKept" (sa 212) s := (h A s H g).2.2.2.2.2.2.2.2.2.2.2.2.2.2.2.2.2.2.2.2.2.2.2.2.2.2.2.2.2.2.2.2.2.2.2.2.2.2.2.2.2.2.2.2.2.2.2.2.2.2.2.2.2.2.2.2.2.2.2.2.2.2.2.2.2.2.2.2.2.2.2.2.2.2.2.2.2.2.2.2.2.2.2.2.2.2.2.2.2.2.2.2.2.2.2.2.2.2.2.2.2.2.2.2.2.2.1
theorem kESH_107 {G : kGt} {sa : Nat → Nat} {so : kSo} (h : kESH G sa so) {A : Nat → Prop} {s : State} {H : Heap} (g : G A s H) : vk_R "KnowHouse" 385 "facet" (sa 213) s := (h A s H g).2.2.2.2.2.2.2.2.2.2.2.2.2.2.2.2.2.2.2.2.2.2.2.2.2.2.2.2.2.2.2.2.2.2.2.2.2.2.2.2.2.2.2.2.2.2.2.2.2.2.2.2.2.2.2.2.2.2.2.2.2.2.2.2.2.2.2.2.2.2.2.2.2.2.2.2.2.2.2.2.2.2.2.2.2.2.2.2.2.2.2.2.2.2.2.2.2.2.2.2.2.2.2.2.2.2.2.1
theorem kESH_108 {G : kGt} {sa : Nat → Nat} {so : kSo} (h : kESH G sa so) {A : Nat → Prop} {s : State} {H : Heap} (g : G A s H) : vk_R "KnowHouse" 387 "top" (sa 214) s := (h A s H g).2.2.2.2.2.2.2.2.2.2.2.2.2.2.2.2.2.2.2.2.2.2.2.2.2.2.2.2.2.2.2.2.2.2.2.2.2.2.2.2.2.2.2.2.2.2.2.2.2.2.2.2.2.2.2.2.2.2.2.2.2.2.2.2.2.2.2.2.2.2.2.2.2.2.2.2.2.2.2.2.2.2.2.2.2.2.2.2.2.2.2.2.2.2.2.2.2.2.2.2.2.2.2.2.2.2.2.2.1
theorem kESH_109 {G : kGt} {sa : Nat → Nat} {so : kSo} (h : kESH G sa so) {A : Nat → Prop} {s : State} {H : Heap} (g : G A s H) : vk_R "KnowHouse" 389 "range" (sa 215) s := (h A s H g).2.2.2.2.2.2.2.2.2.2.2.2.2.2.2.2.2.2.2.2.2.2.2.2.2.2.2.2.2.2.2.2.2.2.2.2.2.2.2.2.2.2.2.2.2.2.2.2.2.2.2.2.2.2.2.2.2.2.2.2.2.2.2.2.2.2.2.2.2.2.2.2.2.2.2.2.2.2.2.2.2.2.2.2.2.2.2.2.2.2.2.2.2.2.2.2.2.2.2.2.2.2.2.2.2.2.2.2.2.1
theorem kESH_110 {G : kGt} {sa : Nat → Nat} {so : kSo} (h : kESH G sa so) {A : Nat → Prop} {s : State} {H : Heap} (g : G A s H) : vk_R "KnowHouse" 391 "sum" (sa 216) s := (h A s H g).2.2.2.2.2.2.2.2.2.2.2.2.2.2.2.2.2.2.2.2.2.2.2.2.2.2.2.2.2.2.2.2.2.2.2.2.2.2.2.2.2.2.2.2.2.2.2.2.2.2.2.2.2.2.2.2.2.2.2.2.2.2.2.2.2.2.2.2.2.2.2.2.2.2.2.2.2.2.2.2.2.2.2.2.2.2.2.2.2.2.2.2.2.2.2.2.2.2.2.2.2.2.2.2.2.2.2.2.2.2.1
theorem kESH_111 {G : kGt} {sa : Nat → Nat} {so : kSo} (h : kESH G sa so) {A : Nat → Prop} {s : State} {H : Heap} (g : G A s H) : vk_R "KnowHouse" 393 "changed" (sa 217) s := (h A s H g).2.2.2.2.2.2.2.2.2.2.2.2.2.2.2.2.2.2.2.2.2.2.2.2.2.2.2.2.2.2.2.2.2.2.2.2.2.2.2.2.2.2.2.2.2.2.2.2.2.2.2.2.2.2.2.2.2.2.2.2.2.2.2.2.2.2.2.2.2.2.2.2.2.2.2.2.2.2.2.2.2.2.2.2.2.2.2.2.2.2.2.2.2.2.2.2.2.2.2.2.2.2.2.2.2.2.2.2.2.2.2.1
theorem kESH_112 {G : kGt} {sa : Nat → Nat} {so : kSo} (h : kESH G sa so) {A : Nat → Prop} {s : State} {H : Heap} (g : G A s H) : vk_R "KnowHouse" 395 "key" (sa 218) s := (h A s H g).2.2.2.2.2.2.2.2.2.2.2.2.2.2.2.2.2.2.2.2.2.2.2.2.2.2.2.2.2.2.2.2.2.2.2.2.2.2.2.2.2.2.2.2.2.2.2.2.2.2.2.2.2.2.2.2.2.2.2.2.2.2.2.2.2.2.2.2.2.2.2.2.2.2.2.2.2.2.2.2.2.2.2.2.2.2.2.2.2.2.2.2.2.2.2.2.2.2.2.2.2.2.2.2.2.2.2.2.2.2.2.2.1
theorem kESH_113 {G : kGt} {sa : Nat → Nat} {so : kSo} (h : kESH G sa so) {A : Nat → Prop} {s : State} {H : Heap} (g : G A s H) : vk_R "KnowHouse" 397 "mapping" (sa 219) s := (h A s H g).2.2.2.2.2.2.2.2.2.2.2.2.2.2.2.2.2.2.2.2.2.2.2.2.2.2.2.2.2.2.2.2.2.2.2.2.2.2.2.2.2.2.2.2.2.2.2.2.2.2.2.2.2.2.2.2.2.2.2.2.2.2.2.2.2.2.2.2.2.2.2.2.2.2.2.2.2.2.2.2.2.2.2.2.2.2.2.2.2.2.2.2.2.2.2.2.2.2.2.2.2.2.2.2.2.2.2.2.2.2.2.2.2.1
theorem kESH_114 {G : kGt} {sa : Nat → Nat} {so : kSo} (h : kESH G sa so) {A : Nat → Prop} {s : State} {H : Heap} (g : G A s H) : vk_R "KnowHouse" 399 "atom" (sa 220) s := (h A s H g).2.2.2.2.2.2.2.2.2.2.2.2.2.2.2.2.2.2.2.2.2.2.2.2.2.2.2.2.2.2.2.2.2.2.2.2.2.2.2.2.2.2.2.2.2.2.2.2.2.2.2.2.2.2.2.2.2.2.2.2.2.2.2.2.2.2.2.2.2.2.2.2.2.2.2.2.2.2.2.2.2.2.2.2.2.2.2.2.2.2.2.2.2.2.2.2.2.2.2.2.2.2.2.2.2.2.2.2.2.2.2.2.2.2.1
theorem kESH_115 {G : kGt} {sa : Nat → Nat} {so : kSo} (h : kESH G sa so) {A : Nat → Prop} {s : State} {H : Heap} (g : G A s H) : vk_R "KnowHouse" 401 "span" (sa 221) s := (h A s H g).2.2.2.2.2.2.2.2.2.2.2.2.2.2.2.2.2.2.2.2.2.2.2.2.2.2.2.2.2.2.2.2.2.2.2.2.2.2.2.2.2.2.2.2.2.2.2.2.2.2.2.2.2.2.2.2.2.2.2.2.2.2.2.2.2.2.2.2.2.2.2.2.2.2.2.2.2.2.2.2.2.2.2.2.2.2.2.2.2.2.2.2.2.2.2.2.2.2.2.2.2.2.2.2.2.2.2.2.2.2.2.2.2.2.2.1
theorem kESH_116 {G : kGt} {sa : Nat → Nat} {so : kSo} (h : kESH G sa so) {A : Nat → Prop} {s : State} {H : Heap} (g : G A s H) : vk_R "KnowHouse" 403 "clear" (sa 222) s := (h A s H g).2.2.2.2.2.2.2.2.2.2.2.2.2.2.2.2.2.2.2.2.2.2.2.2.2.2.2.2.2.2.2.2.2.2.2.2.2.2.2.2.2.2.2.2.2.2.2.2.2.2.2.2.2.2.2.2.2.2.2.2.2.2.2.2.2.2.2.2.2.2.2.2.2.2.2.2.2.2.2.2.2.2.2.2.2.2.2.2.2.2.2.2.2.2.2.2.2.2.2.2.2.2.2.2.2.2.2.2.2.2.2.2.2.2.2.2.1
theorem kESH_117 {G : kGt} {sa : Nat → Nat} {so : kSo} (h : kESH G sa so) {A : Nat → Prop} {s : State} {H : Heap} (g : G A s H) : vk_R "KnowHouse" 405 "unions" (sa 223) s := (h A s H g).2.2.2.2.2.2.2.2.2.2.2.2.2.2.2.2.2.2.2.2.2.2.2.2.2.2.2.2.2.2.2.2.2.2.2.2.2.2.2.2.2.2.2.2.2.2.2.2.2.2.2.2.2.2.2.2.2.2.2.2.2.2.2.2.2.2.2.2.2.2.2.2.2.2.2.2.2.2.2.2.2.2.2.2.2.2.2.2.2.2.2.2.2.2.2.2.2.2.2.2.2.2.2.2.2.2.2.2.2.2.2.2.2.2.2.2.2.1
theorem kESH_118 {G : kGt} {sa : Nat → Nat} {so : kSo} (h : kESH G sa so) {A : Nat → Prop} {s : State} {H : Heap} (g : G A s H) : vk_R "KnowHouse" 407 "union" (sa 224) s := (h A s H g).2.2.2.2.2.2.2.2.2.2.2.2.2.2.2.2.2.2.2.2.2.2.2.2.2.2.2.2.2.2.2.2.2.2.2.2.2.2.2.2.2.2.2.2.2.2.2.2.2.2.2.2.2.2.2.2.2.2.2.2.2.2.2.2.2.2.2.2.2.2.2.2.2.2.2.2.2.2.2.2.2.2.2.2.2.2.2.2.2.2.2.2.2.2.2.2.2.2.2.2.2.2.2.2.2.2.2.2.2.2.2.2.2.2.2.2.2.2.1
theorem kESH_119 {G : kGt} {sa : Nat → Nat} {so : kSo} (h : kESH G sa so) {A : Nat → Prop} {s : State} {H : Heap} (g : G A s H) : vk_R "KnowHouse" 409 "estimate" (sa 225) s := (h A s H g).2.2.2.2.2.2.2.2.2.2.2.2.2.2.2.2.2.2.2.2.2.2.2.2.2.2.2.2.2.2.2.2.2.2.2.2.2.2.2.2.2.2.2.2.2.2.2.2.2.2.2.2.2.2.2.2.2.2.2.2.2.2.2.2.2.2.2.2.2.2.2.2.2.2.2.2.2.2.2.2.2.2.2.2.2.2.2.2.2.2.2.2.2.2.2.2.2.2.2.2.2.2.2.2.2.2.2.2.2.2.2.2.2.2.2.2.2.2.2.1
theorem kESH_120 {G : kGt} {sa : Nat → Nat} {so : kSo} (h : kESH G sa so) {A : Nat → Prop} {s : State} {H : Heap} (g : G A s H) : vk_R "KnowHouse" 411 "value" (sa 226) s := (h A s H g).2.2.2.2.2.2.2.2.2.2.2.2.2.2.2.2.2.2.2.2.2.2.2.2.2.2.2.2.2.2.2.2.2.2.2.2.2.2.2.2.2.2.2.2.2.2.2.2.2.2.2.2.2.2.2.2.2.2.2.2.2.2.2.2.2.2.2.2.2.2.2.2.2.2.2.2.2.2.2.2.2.2.2.2.2.2.2.2.2.2.2.2.2.2.2.2.2.2.2.2.2.2.2.2.2.2.2.2.2.2.2.2.2.2.2.2.2.2.2.2.1
theorem kESH_121 {G : kGt} {sa : Nat → Nat} {so : kSo} (h : kESH G sa so) {A : Nat → Prop} {s : State} {H : Heap} (g : G A s H) : vk_R "KnowHouse" 413 "found" (sa 227) s := (h A s H g).2.2.2.2.2.2.2.2.2.2.2.2.2.2.2.2.2.2.2.2.2.2.2.2.2.2.2.2.2.2.2.2.2.2.2.2.2.2.2.2.2.2.2.2.2.2.2.2.2.2.2.2.2.2.2.2.2.2.2.2.2.2.2.2.2.2.2.2.2.2.2.2.2.2.2.2.2.2.2.2.2.2.2.2.2.2.2.2.2.2.2.2.2.2.2.2.2.2.2.2.2.2.2.2.2.2.2.2.2.2.2.2.2.2.2.2.2.2.2.2.2.1
theorem kESH_122 {G : kGt} {sa : Nat → Nat} {so : kSo} (h : kESH G sa so) {A : Nat → Prop} {s : State} {H : Heap} (g : G A s H) : vk_R "KnowHouse" 415 "fact" (sa 228) s := (h A s H g).2.2.2.2.2.2.2.2.2.2.2.2.2.2.2.2.2.2.2.2.2.2.2.2.2.2.2.2.2.2.2.2.2.2.2.2.2.2.2.2.2.2.2.2.2.2.2.2.2.2.2.2.2.2.2.2.2.2.2.2.2.2.2.2.2.2.2.2.2.2.2.2.2.2.2.2.2.2.2.2.2.2.2.2.2.2.2.2.2.2.2.2.2.2.2.2.2.2.2.2.2.2.2.2.2.2.2.2.2.2.2.2.2.2.2.2.2.2.2.2.2.2.1
theorem kESH_123 {G : kGt} {sa : Nat → Nat} {so : kSo} (h : kESH G sa so) {A : Nat → Prop} {s : State} {H : Heap} (g : G A s H) : vk_R "KnowHouse" 417 "body" (sa 229) s := (h A s H g).2.2.2.2.2.2.2.2.2.2.2.2.2.2.2.2.2.2.2.2.2.2.2.2.2.2.2.2.2.2.2.2.2.2.2.2.2.2.2.2.2.2.2.2.2.2.2.2.2.2.2.2.2.2.2.2.2.2.2.2.2.2.2.2.2.2.2.2.2.2.2.2.2.2.2.2.2.2.2.2.2.2.2.2.2.2.2.2.2.2.2.2.2.2.2.2.2.2.2.2.2.2.2.2.2.2.2.2.2.2.2.2.2.2.2.2.2.2.2.2.2.2.2.1
theorem kESH_124 {G : kGt} {sa : Nat → Nat} {so : kSo} (h : kESH G sa so) {A : Nat → Prop} {s : State} {H : Heap} (g : G A s H) : vk_R "KnowHouse" 419 "iiiib" (sa 230) s := (h A s H g).2.2.2.2.2.2.2.2.2.2.2.2.2.2.2.2.2.2.2.2.2.2.2.2.2.2.2.2.2.2.2.2.2.2.2.2.2.2.2.2.2.2.2.2.2.2.2.2.2.2.2.2.2.2.2.2.2.2.2.2.2.2.2.2.2.2.2.2.2.2.2.2.2.2.2.2.2.2.2.2.2.2.2.2.2.2.2.2.2.2.2.2.2.2.2.2.2.2.2.2.2.2.2.2.2.2.2.2.2.2.2.2.2.2.2.2.2.2.2.2.2.2.2.2.1
theorem kESH_125 {G : kGt} {sa : Nat → Nat} {so : kSo} (h : kESH G sa so) {A : Nat → Prop} {s : State} {H : Heap} (g : G A s H) : vk_R "KnowHouse" 421 "filter" (sa 231) s := (h A s H g).2.2.2.2.2.2.2.2.2.2.2.2.2.2.2.2.2.2.2.2.2.2.2.2.2.2.2.2.2.2.2.2.2.2.2.2.2.2.2.2.2.2.2.2.2.2.2.2.2.2.2.2.2.2.2.2.2.2.2.2.2.2.2.2.2.2.2.2.2.2.2.2.2.2.2.2.2.2.2.2.2.2.2.2.2.2.2.2.2.2.2.2.2.2.2.2.2.2.2.2.2.2.2.2.2.2.2.2.2.2.2.2.2.2.2.2.2.2.2.2.2.2.2.2.2.1
theorem kESH_126 {G : kGt} {sa : Nat → Nat} {so : kSo} (h : kESH G sa so) {A : Nat → Prop} {s : State} {H : Heap} (g : G A s H) : vk_R "KnowHouse" 423 "aggregate" (sa 232) s := (h A s H g).2.2.2.2.2.2.2.2.2.2.2.2.2.2.2.2.2.2.2.2.2.2.2.2.2.2.2.2.2.2.2.2.2.2.2.2.2.2.2.2.2.2.2.2.2.2.2.2.2.2.2.2.2.2.2.2.2.2.2.2.2.2.2.2.2.2.2.2.2.2.2.2.2.2.2.2.2.2.2.2.2.2.2.2.2.2.2.2.2.2.2.2.2.2.2.2.2.2.2.2.2.2.2.2.2.2.2.2.2.2.2.2.2.2.2.2.2.2.2.2.2.2.2.2.2.2.1
theorem kESH_127 {G : kGt} {sa : Nat → Nat} {so : kSo} (h : kESH G sa so) {A : Nat → Prop} {s : State} {H : Heap} (g : G A s H) : vk_R "KnowHouse" 425 "safe" (sa 233) s := (h A s H g).2.2.2.2.2.2.2.2.2.2.2.2.2.2.2.2.2.2.2.2.2.2.2.2.2.2.2.2.2.2.2.2.2.2.2.2.2.2.2.2.2.2.2.2.2.2.2.2.2.2.2.2.2.2.2.2.2.2.2.2.2.2.2.2.2.2.2.2.2.2.2.2.2.2.2.2.2.2.2.2.2.2.2.2.2.2.2.2.2.2.2.2.2.2.2.2.2.2.2.2.2.2.2.2.2.2.2.2.2.2.2.2.2.2.2.2.2.2.2.2.2.2.2.2.2.2.2.1
theorem kESH_128 {G : kGt} {sa : Nat → Nat} {so : kSo} (h : kESH G sa so) {A : Nat → Prop} {s : State} {H : Heap} (g : G A s H) : vk_R "KnowHouse" 427 "stratum" (sa 234) s := (h A s H g).2.2.2.2.2.2.2.2.2.2.2.2.2.2.2.2.2.2.2.2.2.2.2.2.2.2.2.2.2.2.2.2.2.2.2.2.2.2.2.2.2.2.2.2.2.2.2.2.2.2.2.2.2.2.2.2.2.2.2.2.2.2.2.2.2.2.2.2.2.2.2.2.2.2.2.2.2.2.2.2.2.2.2.2.2.2.2.2.2.2.2.2.2.2.2.2.2.2.2.2.2.2.2.2.2.2.2.2.2.2.2.2.2.2.2.2.2.2.2.2.2.2.2.2.2.2.2.2.1
theorem kESH_129 {G : kGt} {sa : Nat → Nat} {so : kSo} (h : kESH G sa so) {A : Nat → Prop} {s : State} {H : Heap} (g : G A s H) : vk_R "KnowHouse" 429 "holds" (sa 235) s := (h A s H g).2.2.2.2.2.2.2.2.2.2.2.2.2.2.2.2.2.2.2.2.2.2.2.2.2.2.2.2.2.2.2.2.2.2.2.2.2.2.2.2.2.2.2.2.2.2.2.2.2.2.2.2.2.2.2.2.2.2.2.2.2.2.2.2.2.2.2.2.2.2.2.2.2.2.2.2.2.2.2.2.2.2.2.2.2.2.2.2.2.2.2.2.2.2.2.2.2.2.2.2.2.2.2.2.2.2.2.2.2.2.2.2.2.2.2.2.2.2.2.2.2.2.2.2.2.2.2.2.2.1
theorem kESH_130 {G : kGt} {sa : Nat → Nat} {so : kSo} (h : kESH G sa so) {A : Nat → Prop} {s : State} {H : Heap} (g : G A s H) : vk_R "KnowHouse" 431 "round" (sa 236) s := (h A s H g).2.2.2.2.2.2.2.2.2.2.2.2.2.2.2.2.2.2.2.2.2.2.2.2.2.2.2.2.2.2.2.2.2.2.2.2.2.2.2.2.2.2.2.2.2.2.2.2.2.2.2.2.2.2.2.2.2.2.2.2.2.2.2.2.2.2.2.2.2.2.2.2.2.2.2.2.2.2.2.2.2.2.2.2.2.2.2.2.2.2.2.2.2.2.2.2.2.2.2.2.2.2.2.2.2.2.2.2.2.2.2.2.2.2.2.2.2.2.2.2.2.2.2.2.2.2.2.2.2.2.1
theorem kESH_131 {G : kGt} {sa : Nat → Nat} {so : kSo} (h : kESH G sa so) {A : Nat → Prop} {s : State} {H : Heap} (g : G A s H) : vk_R "KnowHouse" 433 "counts" (sa 237) s := (h A s H g).2.2.2.2.2.2.2.2.2.2.2.2.2.2.2.2.2.2.2.2.2.2.2.2.2.2.2.2.2.2.2.2.2.2.2.2.2.2.2.2.2.2.2.2.2.2.2.2.2.2.2.2.2.2.2.2.2.2.2.2.2.2.2.2.2.2.2.2.2.2.2.2.2.2.2.2.2.2.2.2.2.2.2.2.2.2.2.2.2.2.2.2.2.2.2.2.2.2.2.2.2.2.2.2.2.2.2.2.2.2.2.2.2.2.2.2.2.2.2.2.2.2.2.2.2.2.2.2.2.2.2.1
theorem kESH_132 {G : kGt} {sa : Nat → Nat} {so : kSo} (h : kESH G sa so) {A : Nat → Prop} {s : State} {H : Heap} (g : G A s H) : vk_R "KnowHouse" 435 "biii" (sa 238) s := (h A s H g).2.2.2.2.2.2.2.2.2.2.2.2.2.2.2.2.2.2.2.2.2.2.2.2.2.2.2.2.2.2.2.2.2.2.2.2.2.2.2.2.2.2.2.2.2.2.2.2.2.2.2.2.2.2.2.2.2.2.2.2.2.2.2.2.2.2.2.2.2.2.2.2.2.2.2.2.2.2.2.2.2.2.2.2.2.2.2.2.2.2.2.2.2.2.2.2.2.2.2.2.2.2.2.2.2.2.2.2.2.2.2.2.2.2.2.2.2.2.2.2.2.2.2.2.2.2.2.2.2.2.2.2.1
theorem kESH_133 {G : kGt} {sa : Nat → Nat} {so : kSo} (h : kESH G sa so) {A : Nat → Prop} {s : State} {H : Heap} (g : G A s H) : vk_R "KnowHouse" 437 "forget" (sa 239) s := (h A s H g).2.2.2.2.2.2.2.2.2.2.2.2.2.2.2.2.2.2.2.2.2.2.2.2.2.2.2.2.2.2.2.2.2.2.2.2.2.2.2.2.2.2.2.2.2.2.2.2.2.2.2.2.2.2.2.2.2.2.2.2.2.2.2.2.2.2.2.2.2.2.2.2.2.2.2.2.2.2.2.2.2.2.2.2.2.2.2.2.2.2.2.2.2.2.2.2.2.2.2.2.2.2.2.2.2.2.2.2.2.2.2.2.2.2.2.2.2.2.2.2.2.2.2.2.2.2.2.2.2.2.2.2.2.1
theorem kESH_134 {G : kGt} {sa : Nat → Nat} {so : kSo} (h : kESH G sa so) {A : Nat → Prop} {s : State} {H : Heap} (g : G A s H) : vk_R "KnowHouse" 439 "question" (sa 240) s := (h A s H g).2.2.2.2.2.2.2.2.2.2.2.2.2.2.2.2.2.2.2.2.2.2.2.2.2.2.2.2.2.2.2.2.2.2.2.2.2.2.2.2.2.2.2.2.2.2.2.2.2.2.2.2.2.2.2.2.2.2.2.2.2.2.2.2.2.2.2.2.2.2.2.2.2.2.2.2.2.2.2.2.2.2.2.2.2.2.2.2.2.2.2.2.2.2.2.2.2.2.2.2.2.2.2.2.2.2.2.2.2.2.2.2.2.2.2.2.2.2.2.2.2.2.2.2.2.2.2.2.2.2.2.2.2.2.1
theorem kESH_135 {G : kGt} {sa : Nat → Nat} {so : kSo} (h : kESH G sa so) {A : Nat → Prop} {s : State} {H : Heap} (g : G A s H) : vk_R "KnowHouse" 441 "ibiii" (sa 241) s := (h A s H g).2.2.2.2.2.2.2.2.2.2.2.2.2.2.2.2.2.2.2.2.2.2.2.2.2.2.2.2.2.2.2.2.2.2.2.2.2.2.2.2.2.2.2.2.2.2.2.2.2.2.2.2.2.2.2.2.2.2.2.2.2.2.2.2.2.2.2.2.2.2.2.2.2.2.2.2.2.2.2.2.2.2.2.2.2.2.2.2.2.2.2.2.2.2.2.2.2.2.2.2.2.2.2.2.2.2.2.2.2.2.2.2.2.2.2.2.2.2.2.2.2.2.2.2.2.2.2.2.2.2.2.2.2.2.2.1
theorem kESH_136 {G : kGt} {sa : Nat → Nat} {so : kSo} (h : kESH G sa so) {A : Nat → Prop} {s : State} {H : Heap} (g : G A s H) : vk_R "KnowHouse" 443 "forms" (sa 242) s := (h A s H g).2.2.2.2.2.2.2.2.2.2.2.2.2.2.2.2.2.2.2.2.2.2.2.2.2.2.2.2.2.2.2.2.2.2.2.2.2.2.2.2.2.2.2.2.2.2.2.2.2.2.2.2.2.2.2.2.2.2.2.2.2.2.2.2.2.2.2.2.2.2.2.2.2.2.2.2.2.2.2.2.2.2.2.2.2.2.2.2.2.2.2.2.2.2.2.2.2.2.2.2.2.2.2.2.2.2.2.2.2.2.2.2.2.2.2.2.2.2.2.2.2.2.2.2.2.2.2.2.2.2.2.2.2.2.2.2.1
theorem kESH_137 {G : kGt} {sa : Nat → Nat} {so : kSo} (h : kESH G sa so) {A : Nat → Prop} {s : State} {H : Heap} (g : G A s H) : vk_R "KnowHouse" 445 "answer" (sa 243) s := (h A s H g).2.2.2.2.2.2.2.2.2.2.2.2.2.2.2.2.2.2.2.2.2.2.2.2.2.2.2.2.2.2.2.2.2.2.2.2.2.2.2.2.2.2.2.2.2.2.2.2.2.2.2.2.2.2.2.2.2.2.2.2.2.2.2.2.2.2.2.2.2.2.2.2.2.2.2.2.2.2.2.2.2.2.2.2.2.2.2.2.2.2.2.2.2.2.2.2.2.2.2.2.2.2.2.2.2.2.2.2.2.2.2.2.2.2.2.2.2.2.2.2.2.2.2.2.2.2.2.2.2.2.2.2.2.2.2.2.2.1
theorem kESH_138 {G : kGt} {sa : Nat → Nat} {so : kSo} (h : kESH G sa so) {A : Nat → Prop} {s : State} {H : Heap} (g : G A s H) : vk_R "KnowHouse" 447 "why" (sa 244) s := (h A s H g).2.2.2.2.2.2.2.2.2.2.2.2.2.2.2.2.2.2.2.2.2.2.2.2.2.2.2.2.2.2.2.2.2.2.2.2.2.2.2.2.2.2.2.2.2.2.2.2.2.2.2.2.2.2.2.2.2.2.2.2.2.2.2.2.2.2.2.2.2.2.2.2.2.2.2.2.2.2.2.2.2.2.2.2.2.2.2.2.2.2.2.2.2.2.2.2.2.2.2.2.2.2.2.2.2.2.2.2.2.2.2.2.2.2.2.2.2.2.2.2.2.2.2.2.2.2.2.2.2.2.2.2.2.2.2.2.2.2.1
theorem kESH_139 {G : kGt} {sa : Nat → Nat} {so : kSo} (h : kESH G sa so) {A : Nat → Prop} {s : State} {H : Heap} (g : G A s H) : vk_R "KnowHouse" 449 "page" (sa 245) s := (h A s H g).2.2.2.2.2.2.2.2.2.2.2.2.2.2.2.2.2.2.2.2.2.2.2.2.2.2.2.2.2.2.2.2.2.2.2.2.2.2.2.2.2.2.2.2.2.2.2.2.2.2.2.2.2.2.2.2.2.2.2.2.2.2.2.2.2.2.2.2.2.2.2.2.2.2.2.2.2.2.2.2.2.2.2.2.2.2.2.2.2.2.2.2.2.2.2.2.2.2.2.2.2.2.2.2.2.2.2.2.2.2.2.2.2.2.2.2.2.2.2.2.2.2.2.2.2.2.2.2.2.2.2.2.2.2.2.2.2.2.2.1
theorem kESH_140 {G : kGt} {sa : Nat → Nat} {so : kSo} (h : kESH G sa so) {A : Nat → Prop} {s : State} {H : Heap} (g : G A s H) : vk_R "KnowHouse" 451 "iil" (sa 246) s := (h A s H g).2.2.2.2.2.2.2.2.2.2.2.2.2.2.2.2.2.2.2.2.2.2.2.2.2.2.2.2.2.2.2.2.2.2.2.2.2.2.2.2.2.2.2.2.2.2.2.2.2.2.2.2.2.2.2.2.2.2.2.2.2.2.2.2.2.2.2.2.2.2.2.2.2.2.2.2.2.2.2.2.2.2.2.2.2.2.2.2.2.2.2.2.2.2.2.2.2.2.2.2.2.2.2.2.2.2.2.2.2.2.2.2.2.2.2.2.2.2.2.2.2.2.2.2.2.2.2.2.2.2.2.2.2.2.2.2.2.2.2.2.1
theorem kESH_141 {G : kGt} {sa : Nat → Nat} {so : kSo} (h : kESH G sa so) {A : Nat → Prop} {s : State} {H : Heap} (g : G A s H) : vk_R "KnowHouse" 453 "sync" (sa 247) s := (h A s H g).2.2.2.2.2.2.2.2.2.2.2.2.2.2.2.2.2.2.2.2.2.2.2.2.2.2.2.2.2.2.2.2.2.2.2.2.2.2.2.2.2.2.2.2.2.2.2.2.2.2.2.2.2.2.2.2.2.2.2.2.2.2.2.2.2.2.2.2.2.2.2.2.2.2.2.2.2.2.2.2.2.2.2.2.2.2.2.2.2.2.2.2.2.2.2.2.2.2.2.2.2.2.2.2.2.2.2.2.2.2.2.2.2.2.2.2.2.2.2.2.2.2.2.2.2.2.2.2.2.2.2.2.2.2.2.2.2.2.2.2.2.1
theorem kESH_142 {G : kGt} {sa : Nat → Nat} {so : kSo} (h : kESH G sa so) {A : Nat → Prop} {s : State} {H : Heap} (g : G A s H) : vk_R "KnowHouse" 455 "cut" (sa 248) s := (h A s H g).2.2.2.2.2.2.2.2.2.2.2.2.2.2.2.2.2.2.2.2.2.2.2.2.2.2.2.2.2.2.2.2.2.2.2.2.2.2.2.2.2.2.2.2.2.2.2.2.2.2.2.2.2.2.2.2.2.2.2.2.2.2.2.2.2.2.2.2.2.2.2.2.2.2.2.2.2.2.2.2.2.2.2.2.2.2.2.2.2.2.2.2.2.2.2.2.2.2.2.2.2.2.2.2.2.2.2.2.2.2.2.2.2.2.2.2.2.2.2.2.2.2.2.2.2.2.2.2.2.2.2.2.2.2.2.2.2.2.2.2.2.2.1
theorem kESH_143 {G : kGt} {sa : Nat → Nat} {so : kSo} (h : kESH G sa so) {A : Nat → Prop} {s : State} {H : Heap} (g : G A s H) : vk_R "KnowHouse" 457 "start" (sa 249) s := (h A s H g).2.2.2.2.2.2.2.2.2.2.2.2.2.2.2.2.2.2.2.2.2.2.2.2.2.2.2.2.2.2.2.2.2.2.2.2.2.2.2.2.2.2.2.2.2.2.2.2.2.2.2.2.2.2.2.2.2.2.2.2.2.2.2.2.2.2.2.2.2.2.2.2.2.2.2.2.2.2.2.2.2.2.2.2.2.2.2.2.2.2.2.2.2.2.2.2.2.2.2.2.2.2.2.2.2.2.2.2.2.2.2.2.2.2.2.2.2.2.2.2.2.2.2.2.2.2.2.2.2.2.2.2.2.2.2.2.2.2.2.2.2.2.2.1
theorem kESH_144 {G : kGt} {sa : Nat → Nat} {so : kSo} (h : kESH G sa so) {A : Nat → Prop} {s : State} {H : Heap} (g : G A s H) : vk_R "KnowHouse" 459 "poke" (sa 250) s := (h A s H g).2.2.2.2.2.2.2.2.2.2.2.2.2.2.2.2.2.2.2.2.2.2.2.2.2.2.2.2.2.2.2.2.2.2.2.2.2.2.2.2.2.2.2.2.2.2.2.2.2.2.2.2.2.2.2.2.2.2.2.2.2.2.2.2.2.2.2.2.2.2.2.2.2.2.2.2.2.2.2.2.2.2.2.2.2.2.2.2.2.2.2.2.2.2.2.2.2.2.2.2.2.2.2.2.2.2.2.2.2.2.2.2.2.2.2.2.2.2.2.2.2.2.2.2.2.2.2.2.2.2.2.2.2.2.2.2.2.2.2.2.2.2.2.2.1
theorem kESH_145 {G : kGt} {sa : Nat → Nat} {so : kSo} (h : kESH G sa so) {A : Nat → Prop} {s : State} {H : Heap} (g : G A s H) : vk_R "KnowHouse" 461 "wrong" (sa 251) s := (h A s H g).2.2.2.2.2.2.2.2.2.2.2.2.2.2.2.2.2.2.2.2.2.2.2.2.2.2.2.2.2.2.2.2.2.2.2.2.2.2.2.2.2.2.2.2.2.2.2.2.2.2.2.2.2.2.2.2.2.2.2.2.2.2.2.2.2.2.2.2.2.2.2.2.2.2.2.2.2.2.2.2.2.2.2.2.2.2.2.2.2.2.2.2.2.2.2.2.2.2.2.2.2.2.2.2.2.2.2.2.2.2.2.2.2.2.2.2.2.2.2.2.2.2.2.2.2.2.2.2.2.2.2.2.2.2.2.2.2.2.2.2.2.2.2.2.2.1
theorem kESH_146 {G : kGt} {sa : Nat → Nat} {so : kSo} (h : kESH G sa so) {A : Nat → Prop} {s : State} {H : Heap} (g : G A s H) : vk_R "KnowHouse" 462 "backup" (sa 252) s := (h A s H g).2.2.2.2.2.2.2.2.2.2.2.2.2.2.2.2.2.2.2.2.2.2.2.2.2.2.2.2.2.2.2.2.2.2.2.2.2.2.2.2.2.2.2.2.2.2.2.2.2.2.2.2.2.2.2.2.2.2.2.2.2.2.2.2.2.2.2.2.2.2.2.2.2.2.2.2.2.2.2.2.2.2.2.2.2.2.2.2.2.2.2.2.2.2.2.2.2.2.2.2.2.2.2.2.2.2.2.2.2.2.2.2.2.2.2.2.2.2.2.2.2.2.2.2.2.2.2.2.2.2.2.2.2.2.2.2.2.2.2.2.2.2.2.2.2.2.1
theorem kESH_147 {G : kGt} {sa : Nat → Nat} {so : kSo} (h : kESH G sa so) {A : Nat → Prop} {s : State} {H : Heap} (g : G A s H) : vk_R "KnowHouse" 464 "derived" (sa 253) s := (h A s H g).2.2.2.2.2.2.2.2.2.2.2.2.2.2.2.2.2.2.2.2.2.2.2.2.2.2.2.2.2.2.2.2.2.2.2.2.2.2.2.2.2.2.2.2.2.2.2.2.2.2.2.2.2.2.2.2.2.2.2.2.2.2.2.2.2.2.2.2.2.2.2.2.2.2.2.2.2.2.2.2.2.2.2.2.2.2.2.2.2.2.2.2.2.2.2.2.2.2.2.2.2.2.2.2.2.2.2.2.2.2.2.2.2.2.2.2.2.2.2.2.2.2.2.2.2.2.2.2.2.2.2.2.2.2.2.2.2.2.2.2.2.2.2.2.2.2.2.1
theorem kESH_148 {G : kGt} {sa : Nat → Nat} {so : kSo} (h : kESH G sa so) {A : Nat → Prop} {s : State} {H : Heap} (g : G A s H) : vk_R "KnowHouse" 466 "full" (sa 254) s := (h A s H g).2.2.2.2.2.2.2.2.2.2.2.2.2.2.2.2.2.2.2.2.2.2.2.2.2.2.2.2.2.2.2.2.2.2.2.2.2.2.2.2.2.2.2.2.2.2.2.2.2.2.2.2.2.2.2.2.2.2.2.2.2.2.2.2.2.2.2.2.2.2.2.2.2.2.2.2.2.2.2.2.2.2.2.2.2.2.2.2.2.2.2.2.2.2.2.2.2.2.2.2.2.2.2.2.2.2.2.2.2.2.2.2.2.2.2.2.2.2.2.2.2.2.2.2.2.2.2.2.2.2.2.2.2.2.2.2.2.2.2.2.2.2.2.2.2.2.2.2.1
theorem kESH_149 {G : kGt} {sa : Nat → Nat} {so : kSo} (h : kESH G sa so) {A : Nat → Prop} {s : State} {H : Heap} (g : G A s H) : vk_R "KnowHouse" 468 "b" (sa 255) s := (h A s H g).2.2.2.2.2.2.2.2.2.2.2.2.2.2.2.2.2.2.2.2.2.2.2.2.2.2.2.2.2.2.2.2.2.2.2.2.2.2.2.2.2.2.2.2.2.2.2.2.2.2.2.2.2.2.2.2.2.2.2.2.2.2.2.2.2.2.2.2.2.2.2.2.2.2.2.2.2.2.2.2.2.2.2.2.2.2.2.2.2.2.2.2.2.2.2.2.2.2.2.2.2.2.2.2.2.2.2.2.2.2.2.2.2.2.2.2.2.2.2.2.2.2.2.2.2.2.2.2.2.2.2.2.2.2.2.2.2.2.2.2.2.2.2.2.2.2.2.2.2.1
theorem kESH_150 {G : kGt} {sa : Nat → Nat} {so : kSo} (h : kESH G sa so) {A : Nat → Prop} {s : State} {H : Heap} (g : G A s H) : va_Z "java/lang/String" "COMPACT_STRINGS" "Z" (.int 1) A s H := (h A s H g).2.2.2.2.2.2.2.2.2.2.2.2.2.2.2.2.2.2.2.2.2.2.2.2.2.2.2.2.2.2.2.2.2.2.2.2.2.2.2.2.2.2.2.2.2.2.2.2.2.2.2.2.2.2.2.2.2.2.2.2.2.2.2.2.2.2.2.2.2.2.2.2.2.2.2.2.2.2.2.2.2.2.2.2.2.2.2.2.2.2.2.2.2.2.2.2.2.2.2.2.2.2.2.2.2.2.2.2.2.2.2.2.2.2.2.2.2.2.2.2.2.2.2.2.2.2.2.2.2.2.2.2.2.2.2.2.2.2.2.2.2.2.2.2.2.2.2.2.2.2.1
theorem kESH_151 {G : kGt} {sa : Nat → Nat} {so : kSo} (h : kESH G sa so) {A : Nat → Prop} {s : State} {H : Heap} (g : G A s H) : va_Z "jdk/internal/util/Preconditions" "SIOOBE_FORMATTER" "Ljava/util/function/BiFunction;" (.ref (sa 11)) A s H := (h A s H g).2.2.2.2.2.2.2.2.2.2.2.2.2.2.2.2.2.2.2.2.2.2.2.2.2.2.2.2.2.2.2.2.2.2.2.2.2.2.2.2.2.2.2.2.2.2.2.2.2.2.2.2.2.2.2.2.2.2.2.2.2.2.2.2.2.2.2.2.2.2.2.2.2.2.2.2.2.2.2.2.2.2.2.2.2.2.2.2.2.2.2.2.2.2.2.2.2.2.2.2.2.2.2.2.2.2.2.2.2.2.2.2.2.2.2.2.2.2.2.2.2.2.2.2.2.2.2.2.2.2.2.2.2.2.2.2.2.2.2.2.2.2.2.2.2.2.2.2.2.2.2.1
theorem kESH_152 {G : kGt} {sa : Nat → Nat} {so : kSo} (h : kESH G sa so) {A : Nat → Prop} {s : State} {H : Heap} (g : G A s H) : va_Nc "java/lang/IllegalStateException" "java/lang/IllegalArgumentException" s := (h A s H g).2.2.2.2.2.2.2.2.2.2.2.2.2.2.2.2.2.2.2.2.2.2.2.2.2.2.2.2.2.2.2.2.2.2.2.2.2.2.2.2.2.2.2.2.2.2.2.2.2.2.2.2.2.2.2.2.2.2.2.2.2.2.2.2.2.2.2.2.2.2.2.2.2.2.2.2.2.2.2.2.2.2.2.2.2.2.2.2.2.2.2.2.2.2.2.2.2.2.2.2.2.2.2.2.2.2.2.2.2.2.2.2.2.2.2.2.2.2.2.2.2.2.2.2.2.2.2.2.2.2.2.2.2.2.2.2.2.2.2.2.2.2.2.2.2.2.2.2.2.2.2.2.1
theorem kESH_153 {G : kGt} {sa : Nat → Nat} {so : kSo} (h : kESH G sa so) {A : Nat → Prop} {s : State} {H : Heap} (g : G A s H) : (∃ k, ClassAt s "java/lang/String" k) := (h A s H g).2.2.2.2.2.2.2.2.2.2.2.2.2.2.2.2.2.2.2.2.2.2.2.2.2.2.2.2.2.2.2.2.2.2.2.2.2.2.2.2.2.2.2.2.2.2.2.2.2.2.2.2.2.2.2.2.2.2.2.2.2.2.2.2.2.2.2.2.2.2.2.2.2.2.2.2.2.2.2.2.2.2.2.2.2.2.2.2.2.2.2.2.2.2.2.2.2.2.2.2.2.2.2.2.2.2.2.2.2.2.2.2.2.2.2.2.2.2.2.2.2.2.2.2.2.2.2.2.2.2.2.2.2.2.2.2.2.2.2.2.2.2.2.2.2.2.2.2.2.2.2.2.2.1
def cSH (ci : Nat → Nat) (d : Nat → ClassId) (kd : Nat → Nat) (an : Nat → Nat) (ai : Nat → Nat → Int32) (al : Nat → Nat → Int64) (ar : Nat → Nat → Option Nat) (mX0_roomNames : Nat → Option Nat) (mX0_calls : Nat → Option Nat) (mX0_names : Nat → Option Nat) (mX0_versions : Nat → Option Nat) (mX0_values : Nat → Option Nat) (mX0_proofs : Nat → Option Nat) (mX0_rights : Nat → Option Nat) (mX0_classes : Nat → Option Nat) (mX0_facets : Nat → Option Nat) (mX0_tables : Nat → Option Nat) (mX0_rules : Nat → Option Nat) (mX0_rewrite : Nat → Option Nat) (mX0_disk : Nat → Option Nat) (mX0_tape : Nat → Option Nat) (mX0_size : Nat → Int32) (mX0_begins : Nat → Option Nat) (mX0_ends : Nat → Option Nat) (mX0_words : Nat → Int32) (mX0_args : Nat → Option Nat) (mX0_answers : Nat → Option Nat) (mX0_threw : Nat → Option Nat) (mX0_done : Nat → Int32) (mX0_wrong : Nat → Int32) (mX0_entries : Nat → Option Nat) (mX0_entryCount : Nat → Int32) (mX44_room : Nat → Int32) (mX44_number : Nat → Int32) (mX44_word : Nat → Option Nat) (mX44_kinds : Nat → Option Nat) (mJ1_modCount : Nat → Int32) (mJ2_elementData : Nat → Option Nat) (mJ2_size : Nat → Int32) : Nat → va_E := fun a => match kd a with
  | 1 => .inr (ci 0, [va_rf (mX0_roomNames a), va_rf (mX0_calls a), va_rf (mX0_names a), va_rf (mX0_versions a), va_rf (mX0_values a), va_rf (mX0_proofs a), va_rf (mX0_rights a), va_rf (mX0_classes a), va_rf (mX0_facets a), va_rf (mX0_tables a), va_rf (mX0_rules a), va_rf (mX0_rewrite a), va_rf (mX0_disk a), va_rf (mX0_tape a), .int (mX0_size a), va_rf (mX0_begins a), va_rf (mX0_ends a), .int (mX0_words a), va_rf (mX0_args a), va_rf (mX0_answers a), va_rf (mX0_threw a), .int (mX0_done a), .int (mX0_wrong a), va_rf (mX0_entries a), .int (mX0_entryCount a)])
  | 2 => .inr (ci 1, [.int (mX44_room a), .int (mX44_number a), va_rf (mX44_word a), va_rf (mX44_kinds a)])
  | 3 => .inr (ci 2, [.int (mJ1_modCount a), va_rf (mJ2_elementData a), .int (mJ2_size a)])
  | 4 => .inl (d 0, an a, .inl (ai a))
  | 5 => .inl (d 1, an a, .inl (ai a))
  | 6 => .inl (d 2, an a, .inl (ai a))
  | 7 => .inl (d 3, an a, .inr (.inl (al a)))
  | 8 => .inl (d 4, an a, .inr (.inr (.inr (.inr (ar a)))))
  | _ => .inl (d 0, 0, .inl (fun _ => 0))
abbrev kSH : List vw_C := [(RX0, TX0, 25), (RX44, TX44, 4), (RJ2, TJ2, 3)]
abbrev tSH (d : Nat → ClassId) : List (ClassId × FieldType) := [(d 0, .int), (d 1, .boolean), (d 2, .byte), (d 3, .long), (d 4, (.object "java/lang/Object"))] ++ tCN (fun j => d (100 + j)) ++ tVT (fun j => d (200 + j)) ++ tDV (fun j => d (300 + j)) ++ tPC (fun j => d (400 + j)) ++ tRD (fun j => d (500 + j)) ++ tCS (fun j => d (600 + j)) ++ tFC (fun j => d (700 + j)) ++ tVR (fun j => d (800 + j)) ++ tRE (fun j => d (900 + j)) ++ tQR (fun j => d (1000 + j)) ++ tKD (fun j => d (1100 + j))
abbrev psSH (ci : Nat → Nat) (d : Nat → ClassId) (sa : Nat → Nat) (so : kSo) (ra : Nat → Nat) (CN_S : cnT) (VT_u : Int) (VT_b : Int) (VT_d : Int) (VT_S : vsS) (DV_S : dvS) (PC_S : pqT) (RD_T : Int) (RD_S : rdT) (CS_u : Int) (CS_S : ctT) (FC_S : FcS) (VR_S : vrS) (RE_l0 : Int) (RE_mb : Int) (RE_kz : Int) (RE_S : reT) (QR_S : qrT) (KD_T : Int) (KD_S : KS) : List (va_W → Prop) := [rCN (fun j => ci (100 + j)) (fun j => d (100 + j)) (ra 1) CN_S, rVT (fun j => ci (200 + j)) (fun j => d (200 + j)) sa (ra 2) VT_u VT_b VT_d VT_S, rDV (fun j => ci (300 + j)) (fun j => d (300 + j)) (ra 3) DV_S, rPC (fun j => ci (400 + j)) (fun j => d (400 + j)) sa so (ra 4) PC_S, rRD (fun j => ci (500 + j)) (fun j => d (500 + j)) sa (ra 5) RD_T RD_S, rCS (fun j => ci (600 + j)) (fun j => d (600 + j)) sa (ra 6) CS_u CS_S, rFC (fun j => ci (700 + j)) (fun j => d (700 + j)) (ra 7) FC_S, rVR (fun j => ci (800 + j)) (fun j => d (800 + j)) (ra 8) VR_S, rRE (fun j => ci (900 + j)) (fun j => d (900 + j)) sa (ra 9) RE_l0 RE_mb RE_kz RE_S, rQR (fun j => ci (1000 + j)) (fun j => d (1000 + j)) (ra 10) QR_S, rKD (fun j => ci (1100 + j)) (fun j => d (1100 + j)) sa (ra 11) KD_T KD_S]
def hrSH (l : Launch) (G : kGt) (sa : Nat → Nat) (so : kSo) (cl : List vw_C) (ci : Nat → Nat) : Prop := (∀ i q, kCN[i]? = some q → cl[ci (100 + i)]? = some q) ∧ (kECN G sa) ∧ (∀ i q, kVT[i]? = some q → cl[ci (200 + i)]? = some q) ∧ (kTh0 G l) ∧ (kEVT G sa so) ∧ (tvSa sa) ∧ (tvSo so sa) ∧ (∀ i q, kDV[i]? = some q → cl[ci (300 + i)]? = some q) ∧ (kEDV G sa so) ∧ (txS so (sa 257) (dvWd 1953658213 4)) ∧ (txS so (sa 258) (dvWd 439721161573 5)) ∧ (txS so (sa 259) (dvWd 5852484 3)) ∧ (txS so (sa 260) (dvWd 4738387 3)) ∧ (txS so (sa 261) dvLL) ∧ (txS so (sa 262) dvHL) ∧ (txS so (sa 263) dvLL) ∧ (txS so (sa 264) [77, 84]) ∧ (txS so (sa 265) (dvWd 1953658213 4)) ∧ (txS so (sa 266) (dvWd 439721161573 5)) ∧ (∀ i q, kPC[i]? = some q → cl[ci (400 + i)]? = some q) ∧ (kEPC G sa so) ∧ (pcTS sa so) ∧ (∀ i q, kRD[i]? = some q → cl[ci (500 + i)]? = some q) ∧ (kERD G sa) ∧ (∀ i q, kCS[i]? = some q → cl[ci (600 + i)]? = some q) ∧ (kECS G sa) ∧ (∀ i q, kFC[i]? = some q → cl[ci (700 + i)]? = some q) ∧ (∀ i q, kVR[i]? = some q → cl[ci (800 + i)]? = some q) ∧ (∀ i q, kRE[i]? = some q → cl[ci (900 + i)]? = some q) ∧ (kERE G sa) ∧ (∀ i q, kQR[i]? = some q → cl[ci (1000 + i)]? = some q) ∧ (∀ i q, kKD[i]? = some q → cl[ci (1100 + i)]? = some q) ∧ (kEKD G sa) ∧ True
theorem tsSH_1 (d : Nat → ClassId) : ∀ q, q ∈ tCN (fun j => d (100 + j)) → q ∈ tSH d := fun q h => List.mem_append.mpr (Or.inl (List.mem_append.mpr (Or.inl (List.mem_append.mpr (Or.inl (List.mem_append.mpr (Or.inl (List.mem_append.mpr (Or.inl (List.mem_append.mpr (Or.inl (List.mem_append.mpr (Or.inl (List.mem_append.mpr (Or.inl (List.mem_append.mpr (Or.inl (List.mem_append.mpr (Or.inl (List.mem_append.mpr (Or.inr h)))))))))))))))))))))
theorem tsSH_2 (d : Nat → ClassId) : ∀ q, q ∈ tVT (fun j => d (200 + j)) → q ∈ tSH d := fun q h => List.mem_append.mpr (Or.inl (List.mem_append.mpr (Or.inl (List.mem_append.mpr (Or.inl (List.mem_append.mpr (Or.inl (List.mem_append.mpr (Or.inl (List.mem_append.mpr (Or.inl (List.mem_append.mpr (Or.inl (List.mem_append.mpr (Or.inl (List.mem_append.mpr (Or.inl (List.mem_append.mpr (Or.inr h)))))))))))))))))))
theorem tsSH_3 (d : Nat → ClassId) : ∀ q, q ∈ tDV (fun j => d (300 + j)) → q ∈ tSH d := fun q h => List.mem_append.mpr (Or.inl (List.mem_append.mpr (Or.inl (List.mem_append.mpr (Or.inl (List.mem_append.mpr (Or.inl (List.mem_append.mpr (Or.inl (List.mem_append.mpr (Or.inl (List.mem_append.mpr (Or.inl (List.mem_append.mpr (Or.inl (List.mem_append.mpr (Or.inr h)))))))))))))))))
theorem tsSH_4 (d : Nat → ClassId) : ∀ q, q ∈ tPC (fun j => d (400 + j)) → q ∈ tSH d := fun q h => List.mem_append.mpr (Or.inl (List.mem_append.mpr (Or.inl (List.mem_append.mpr (Or.inl (List.mem_append.mpr (Or.inl (List.mem_append.mpr (Or.inl (List.mem_append.mpr (Or.inl (List.mem_append.mpr (Or.inl (List.mem_append.mpr (Or.inr h)))))))))))))))
theorem tsSH_5 (d : Nat → ClassId) : ∀ q, q ∈ tRD (fun j => d (500 + j)) → q ∈ tSH d := fun q h => List.mem_append.mpr (Or.inl (List.mem_append.mpr (Or.inl (List.mem_append.mpr (Or.inl (List.mem_append.mpr (Or.inl (List.mem_append.mpr (Or.inl (List.mem_append.mpr (Or.inl (List.mem_append.mpr (Or.inr h)))))))))))))
theorem tsSH_6 (d : Nat → ClassId) : ∀ q, q ∈ tCS (fun j => d (600 + j)) → q ∈ tSH d := fun q h => List.mem_append.mpr (Or.inl (List.mem_append.mpr (Or.inl (List.mem_append.mpr (Or.inl (List.mem_append.mpr (Or.inl (List.mem_append.mpr (Or.inl (List.mem_append.mpr (Or.inr h)))))))))))
theorem tsSH_7 (d : Nat → ClassId) : ∀ q, q ∈ tFC (fun j => d (700 + j)) → q ∈ tSH d := fun q h => List.mem_append.mpr (Or.inl (List.mem_append.mpr (Or.inl (List.mem_append.mpr (Or.inl (List.mem_append.mpr (Or.inl (List.mem_append.mpr (Or.inr h)))))))))
theorem tsSH_8 (d : Nat → ClassId) : ∀ q, q ∈ tVR (fun j => d (800 + j)) → q ∈ tSH d := fun q h => List.mem_append.mpr (Or.inl (List.mem_append.mpr (Or.inl (List.mem_append.mpr (Or.inl (List.mem_append.mpr (Or.inr h)))))))
theorem tsSH_9 (d : Nat → ClassId) : ∀ q, q ∈ tRE (fun j => d (900 + j)) → q ∈ tSH d := fun q h => List.mem_append.mpr (Or.inl (List.mem_append.mpr (Or.inl (List.mem_append.mpr (Or.inr h)))))
theorem tsSH_10 (d : Nat → ClassId) : ∀ q, q ∈ tQR (fun j => d (1000 + j)) → q ∈ tSH d := fun q h => List.mem_append.mpr (Or.inl (List.mem_append.mpr (Or.inr h)))
theorem tsSH_11 (d : Nat → ClassId) : ∀ q, q ∈ tKD (fun j => d (1100 + j)) → q ∈ tSH d := fun q h => List.mem_append.mpr (Or.inr h)
theorem cSH_1 {ci : Nat → Nat} {d : Nat → ClassId} {kd : Nat → Nat} {an : Nat → Nat} {ai : Nat → Nat → Int32} {al : Nat → Nat → Int64} {ar : Nat → Nat → Option Nat} {mX0_roomNames : Nat → Option Nat} {mX0_calls : Nat → Option Nat} {mX0_names : Nat → Option Nat} {mX0_versions : Nat → Option Nat} {mX0_values : Nat → Option Nat} {mX0_proofs : Nat → Option Nat} {mX0_rights : Nat → Option Nat} {mX0_classes : Nat → Option Nat} {mX0_facets : Nat → Option Nat} {mX0_tables : Nat → Option Nat} {mX0_rules : Nat → Option Nat} {mX0_rewrite : Nat → Option Nat} {mX0_disk : Nat → Option Nat} {mX0_tape : Nat → Option Nat} {mX0_size : Nat → Int32} {mX0_begins : Nat → Option Nat} {mX0_ends : Nat → Option Nat} {mX0_words : Nat → Int32} {mX0_args : Nat → Option Nat} {mX0_answers : Nat → Option Nat} {mX0_threw : Nat → Option Nat} {mX0_done : Nat → Int32} {mX0_wrong : Nat → Int32} {mX0_entries : Nat → Option Nat} {mX0_entryCount : Nat → Int32} {mX44_room : Nat → Int32} {mX44_number : Nat → Int32} {mX44_word : Nat → Option Nat} {mX44_kinds : Nat → Option Nat} {mJ1_modCount : Nat → Int32} {mJ2_elementData : Nat → Option Nat} {mJ2_size : Nat → Int32} {a : Nat} (hk : kd a = 1) : (cSH ci d kd an ai al ar mX0_roomNames mX0_calls mX0_names mX0_versions mX0_values mX0_proofs mX0_rights mX0_classes mX0_facets mX0_tables mX0_rules mX0_rewrite mX0_disk mX0_tape mX0_size mX0_begins mX0_ends mX0_words mX0_args mX0_answers mX0_threw mX0_done mX0_wrong mX0_entries mX0_entryCount mX44_room mX44_number mX44_word mX44_kinds mJ1_modCount mJ2_elementData mJ2_size) a = .inr (ci 0, [va_rf (mX0_roomNames a), va_rf (mX0_calls a), va_rf (mX0_names a), va_rf (mX0_versions a), va_rf (mX0_values a), va_rf (mX0_proofs a), va_rf (mX0_rights a), va_rf (mX0_classes a), va_rf (mX0_facets a), va_rf (mX0_tables a), va_rf (mX0_rules a), va_rf (mX0_rewrite a), va_rf (mX0_disk a), va_rf (mX0_tape a), .int (mX0_size a), va_rf (mX0_begins a), va_rf (mX0_ends a), .int (mX0_words a), va_rf (mX0_args a), va_rf (mX0_answers a), va_rf (mX0_threw a), .int (mX0_done a), .int (mX0_wrong a), va_rf (mX0_entries a), .int (mX0_entryCount a)]) := by unfold cSH; simp only [hk]
theorem cSH_1_0 {ci : Nat → Nat} {d : Nat → ClassId} {kd : Nat → Nat} {an : Nat → Nat} {ai : Nat → Nat → Int32} {al : Nat → Nat → Int64} {ar : Nat → Nat → Option Nat} {mX0_roomNames : Nat → Option Nat} {mX0_calls : Nat → Option Nat} {mX0_names : Nat → Option Nat} {mX0_versions : Nat → Option Nat} {mX0_values : Nat → Option Nat} {mX0_proofs : Nat → Option Nat} {mX0_rights : Nat → Option Nat} {mX0_classes : Nat → Option Nat} {mX0_facets : Nat → Option Nat} {mX0_tables : Nat → Option Nat} {mX0_rules : Nat → Option Nat} {mX0_rewrite : Nat → Option Nat} {mX0_disk : Nat → Option Nat} {mX0_tape : Nat → Option Nat} {mX0_size : Nat → Int32} {mX0_begins : Nat → Option Nat} {mX0_ends : Nat → Option Nat} {mX0_words : Nat → Int32} {mX0_args : Nat → Option Nat} {mX0_answers : Nat → Option Nat} {mX0_threw : Nat → Option Nat} {mX0_done : Nat → Int32} {mX0_wrong : Nat → Int32} {mX0_entries : Nat → Option Nat} {mX0_entryCount : Nat → Int32} {mX44_room : Nat → Int32} {mX44_number : Nat → Int32} {mX44_word : Nat → Option Nat} {mX44_kinds : Nat → Option Nat} {mJ1_modCount : Nat → Int32} {mJ2_elementData : Nat → Option Nat} {mJ2_size : Nat → Int32} {a : Nat} {v : Option Nat} (hk : kd a = 1) : va_up (cSH ci d kd an ai al ar mX0_roomNames mX0_calls mX0_names mX0_versions mX0_values mX0_proofs mX0_rights mX0_classes mX0_facets mX0_tables mX0_rules mX0_rewrite mX0_disk mX0_tape mX0_size mX0_begins mX0_ends mX0_words mX0_args mX0_answers mX0_threw mX0_done mX0_wrong mX0_entries mX0_entryCount mX44_room mX44_number mX44_word mX44_kinds mJ1_modCount mJ2_elementData mJ2_size) a (.inr (ci 0, [va_rf v, va_rf (mX0_calls a), va_rf (mX0_names a), va_rf (mX0_versions a), va_rf (mX0_values a), va_rf (mX0_proofs a), va_rf (mX0_rights a), va_rf (mX0_classes a), va_rf (mX0_facets a), va_rf (mX0_tables a), va_rf (mX0_rules a), va_rf (mX0_rewrite a), va_rf (mX0_disk a), va_rf (mX0_tape a), .int (mX0_size a), va_rf (mX0_begins a), va_rf (mX0_ends a), .int (mX0_words a), va_rf (mX0_args a), va_rf (mX0_answers a), va_rf (mX0_threw a), .int (mX0_done a), .int (mX0_wrong a), va_rf (mX0_entries a), .int (mX0_entryCount a)])) = (cSH ci d kd an ai al ar (va_up mX0_roomNames a v) mX0_calls mX0_names mX0_versions mX0_values mX0_proofs mX0_rights mX0_classes mX0_facets mX0_tables mX0_rules mX0_rewrite mX0_disk mX0_tape mX0_size mX0_begins mX0_ends mX0_words mX0_args mX0_answers mX0_threw mX0_done mX0_wrong mX0_entries mX0_entryCount mX44_room mX44_number mX44_word mX44_kinds mJ1_modCount mJ2_elementData mJ2_size) := by
  funext b
  by_cases h : b = a
  · subst h
    rw [va_up_self]
    unfold cSH
    rw [hk]
    simp only [va_up_self]
  · rw [va_up_ne _ _ h]
    unfold cSH
    simp only [va_up_ne _ _ h]
theorem cSH_1_1 {ci : Nat → Nat} {d : Nat → ClassId} {kd : Nat → Nat} {an : Nat → Nat} {ai : Nat → Nat → Int32} {al : Nat → Nat → Int64} {ar : Nat → Nat → Option Nat} {mX0_roomNames : Nat → Option Nat} {mX0_calls : Nat → Option Nat} {mX0_names : Nat → Option Nat} {mX0_versions : Nat → Option Nat} {mX0_values : Nat → Option Nat} {mX0_proofs : Nat → Option Nat} {mX0_rights : Nat → Option Nat} {mX0_classes : Nat → Option Nat} {mX0_facets : Nat → Option Nat} {mX0_tables : Nat → Option Nat} {mX0_rules : Nat → Option Nat} {mX0_rewrite : Nat → Option Nat} {mX0_disk : Nat → Option Nat} {mX0_tape : Nat → Option Nat} {mX0_size : Nat → Int32} {mX0_begins : Nat → Option Nat} {mX0_ends : Nat → Option Nat} {mX0_words : Nat → Int32} {mX0_args : Nat → Option Nat} {mX0_answers : Nat → Option Nat} {mX0_threw : Nat → Option Nat} {mX0_done : Nat → Int32} {mX0_wrong : Nat → Int32} {mX0_entries : Nat → Option Nat} {mX0_entryCount : Nat → Int32} {mX44_room : Nat → Int32} {mX44_number : Nat → Int32} {mX44_word : Nat → Option Nat} {mX44_kinds : Nat → Option Nat} {mJ1_modCount : Nat → Int32} {mJ2_elementData : Nat → Option Nat} {mJ2_size : Nat → Int32} {a : Nat} {v : Option Nat} (hk : kd a = 1) : va_up (cSH ci d kd an ai al ar mX0_roomNames mX0_calls mX0_names mX0_versions mX0_values mX0_proofs mX0_rights mX0_classes mX0_facets mX0_tables mX0_rules mX0_rewrite mX0_disk mX0_tape mX0_size mX0_begins mX0_ends mX0_words mX0_args mX0_answers mX0_threw mX0_done mX0_wrong mX0_entries mX0_entryCount mX44_room mX44_number mX44_word mX44_kinds mJ1_modCount mJ2_elementData mJ2_size) a (.inr (ci 0, [va_rf (mX0_roomNames a), va_rf v, va_rf (mX0_names a), va_rf (mX0_versions a), va_rf (mX0_values a), va_rf (mX0_proofs a), va_rf (mX0_rights a), va_rf (mX0_classes a), va_rf (mX0_facets a), va_rf (mX0_tables a), va_rf (mX0_rules a), va_rf (mX0_rewrite a), va_rf (mX0_disk a), va_rf (mX0_tape a), .int (mX0_size a), va_rf (mX0_begins a), va_rf (mX0_ends a), .int (mX0_words a), va_rf (mX0_args a), va_rf (mX0_answers a), va_rf (mX0_threw a), .int (mX0_done a), .int (mX0_wrong a), va_rf (mX0_entries a), .int (mX0_entryCount a)])) = (cSH ci d kd an ai al ar mX0_roomNames (va_up mX0_calls a v) mX0_names mX0_versions mX0_values mX0_proofs mX0_rights mX0_classes mX0_facets mX0_tables mX0_rules mX0_rewrite mX0_disk mX0_tape mX0_size mX0_begins mX0_ends mX0_words mX0_args mX0_answers mX0_threw mX0_done mX0_wrong mX0_entries mX0_entryCount mX44_room mX44_number mX44_word mX44_kinds mJ1_modCount mJ2_elementData mJ2_size) := by
  funext b
  by_cases h : b = a
  · subst h
    rw [va_up_self]
    unfold cSH
    rw [hk]
    simp only [va_up_self]
  · rw [va_up_ne _ _ h]
    unfold cSH
    simp only [va_up_ne _ _ h]
theorem cSH_1_2 {ci : Nat → Nat} {d : Nat → ClassId} {kd : Nat → Nat} {an : Nat → Nat} {ai : Nat → Nat → Int32} {al : Nat → Nat → Int64} {ar : Nat → Nat → Option Nat} {mX0_roomNames : Nat → Option Nat} {mX0_calls : Nat → Option Nat} {mX0_names : Nat → Option Nat} {mX0_versions : Nat → Option Nat} {mX0_values : Nat → Option Nat} {mX0_proofs : Nat → Option Nat} {mX0_rights : Nat → Option Nat} {mX0_classes : Nat → Option Nat} {mX0_facets : Nat → Option Nat} {mX0_tables : Nat → Option Nat} {mX0_rules : Nat → Option Nat} {mX0_rewrite : Nat → Option Nat} {mX0_disk : Nat → Option Nat} {mX0_tape : Nat → Option Nat} {mX0_size : Nat → Int32} {mX0_begins : Nat → Option Nat} {mX0_ends : Nat → Option Nat} {mX0_words : Nat → Int32} {mX0_args : Nat → Option Nat} {mX0_answers : Nat → Option Nat} {mX0_threw : Nat → Option Nat} {mX0_done : Nat → Int32} {mX0_wrong : Nat → Int32} {mX0_entries : Nat → Option Nat} {mX0_entryCount : Nat → Int32} {mX44_room : Nat → Int32} {mX44_number : Nat → Int32} {mX44_word : Nat → Option Nat} {mX44_kinds : Nat → Option Nat} {mJ1_modCount : Nat → Int32} {mJ2_elementData : Nat → Option Nat} {mJ2_size : Nat → Int32} {a : Nat} {v : Option Nat} (hk : kd a = 1) : va_up (cSH ci d kd an ai al ar mX0_roomNames mX0_calls mX0_names mX0_versions mX0_values mX0_proofs mX0_rights mX0_classes mX0_facets mX0_tables mX0_rules mX0_rewrite mX0_disk mX0_tape mX0_size mX0_begins mX0_ends mX0_words mX0_args mX0_answers mX0_threw mX0_done mX0_wrong mX0_entries mX0_entryCount mX44_room mX44_number mX44_word mX44_kinds mJ1_modCount mJ2_elementData mJ2_size) a (.inr (ci 0, [va_rf (mX0_roomNames a), va_rf (mX0_calls a), va_rf v, va_rf (mX0_versions a), va_rf (mX0_values a), va_rf (mX0_proofs a), va_rf (mX0_rights a), va_rf (mX0_classes a), va_rf (mX0_facets a), va_rf (mX0_tables a), va_rf (mX0_rules a), va_rf (mX0_rewrite a), va_rf (mX0_disk a), va_rf (mX0_tape a), .int (mX0_size a), va_rf (mX0_begins a), va_rf (mX0_ends a), .int (mX0_words a), va_rf (mX0_args a), va_rf (mX0_answers a), va_rf (mX0_threw a), .int (mX0_done a), .int (mX0_wrong a), va_rf (mX0_entries a), .int (mX0_entryCount a)])) = (cSH ci d kd an ai al ar mX0_roomNames mX0_calls (va_up mX0_names a v) mX0_versions mX0_values mX0_proofs mX0_rights mX0_classes mX0_facets mX0_tables mX0_rules mX0_rewrite mX0_disk mX0_tape mX0_size mX0_begins mX0_ends mX0_words mX0_args mX0_answers mX0_threw mX0_done mX0_wrong mX0_entries mX0_entryCount mX44_room mX44_number mX44_word mX44_kinds mJ1_modCount mJ2_elementData mJ2_size) := by
  funext b
  by_cases h : b = a
  · subst h
    rw [va_up_self]
    unfold cSH
    rw [hk]
    simp only [va_up_self]
  · rw [va_up_ne _ _ h]
    unfold cSH
    simp only [va_up_ne _ _ h]
theorem cSH_1_3 {ci : Nat → Nat} {d : Nat → ClassId} {kd : Nat → Nat} {an : Nat → Nat} {ai : Nat → Nat → Int32} {al : Nat → Nat → Int64} {ar : Nat → Nat → Option Nat} {mX0_roomNames : Nat → Option Nat} {mX0_calls : Nat → Option Nat} {mX0_names : Nat → Option Nat} {mX0_versions : Nat → Option Nat} {mX0_values : Nat → Option Nat} {mX0_proofs : Nat → Option Nat} {mX0_rights : Nat → Option Nat} {mX0_classes : Nat → Option Nat} {mX0_facets : Nat → Option Nat} {mX0_tables : Nat → Option Nat} {mX0_rules : Nat → Option Nat} {mX0_rewrite : Nat → Option Nat} {mX0_disk : Nat → Option Nat} {mX0_tape : Nat → Option Nat} {mX0_size : Nat → Int32} {mX0_begins : Nat → Option Nat} {mX0_ends : Nat → Option Nat} {mX0_words : Nat → Int32} {mX0_args : Nat → Option Nat} {mX0_answers : Nat → Option Nat} {mX0_threw : Nat → Option Nat} {mX0_done : Nat → Int32} {mX0_wrong : Nat → Int32} {mX0_entries : Nat → Option Nat} {mX0_entryCount : Nat → Int32} {mX44_room : Nat → Int32} {mX44_number : Nat → Int32} {mX44_word : Nat → Option Nat} {mX44_kinds : Nat → Option Nat} {mJ1_modCount : Nat → Int32} {mJ2_elementData : Nat → Option Nat} {mJ2_size : Nat → Int32} {a : Nat} {v : Option Nat} (hk : kd a = 1) : va_up (cSH ci d kd an ai al ar mX0_roomNames mX0_calls mX0_names mX0_versions mX0_values mX0_proofs mX0_rights mX0_classes mX0_facets mX0_tables mX0_rules mX0_rewrite mX0_disk mX0_tape mX0_size mX0_begins mX0_ends mX0_words mX0_args mX0_answers mX0_threw mX0_done mX0_wrong mX0_entries mX0_entryCount mX44_room mX44_number mX44_word mX44_kinds mJ1_modCount mJ2_elementData mJ2_size) a (.inr (ci 0, [va_rf (mX0_roomNames a), va_rf (mX0_calls a), va_rf (mX0_names a), va_rf v, va_rf (mX0_values a), va_rf (mX0_proofs a), va_rf (mX0_rights a), va_rf (mX0_classes a), va_rf (mX0_facets a), va_rf (mX0_tables a), va_rf (mX0_rules a), va_rf (mX0_rewrite a), va_rf (mX0_disk a), va_rf (mX0_tape a), .int (mX0_size a), va_rf (mX0_begins a), va_rf (mX0_ends a), .int (mX0_words a), va_rf (mX0_args a), va_rf (mX0_answers a), va_rf (mX0_threw a), .int (mX0_done a), .int (mX0_wrong a), va_rf (mX0_entries a), .int (mX0_entryCount a)])) = (cSH ci d kd an ai al ar mX0_roomNames mX0_calls mX0_names (va_up mX0_versions a v) mX0_values mX0_proofs mX0_rights mX0_classes mX0_facets mX0_tables mX0_rules mX0_rewrite mX0_disk mX0_tape mX0_size mX0_begins mX0_ends mX0_words mX0_args mX0_answers mX0_threw mX0_done mX0_wrong mX0_entries mX0_entryCount mX44_room mX44_number mX44_word mX44_kinds mJ1_modCount mJ2_elementData mJ2_size) := by
  funext b
  by_cases h : b = a
  · subst h
    rw [va_up_self]
    unfold cSH
    rw [hk]
    simp only [va_up_self]
  · rw [va_up_ne _ _ h]
    unfold cSH
    simp only [va_up_ne _ _ h]
theorem cSH_1_4 {ci : Nat → Nat} {d : Nat → ClassId} {kd : Nat → Nat} {an : Nat → Nat} {ai : Nat → Nat → Int32} {al : Nat → Nat → Int64} {ar : Nat → Nat → Option Nat} {mX0_roomNames : Nat → Option Nat} {mX0_calls : Nat → Option Nat} {mX0_names : Nat → Option Nat} {mX0_versions : Nat → Option Nat} {mX0_values : Nat → Option Nat} {mX0_proofs : Nat → Option Nat} {mX0_rights : Nat → Option Nat} {mX0_classes : Nat → Option Nat} {mX0_facets : Nat → Option Nat} {mX0_tables : Nat → Option Nat} {mX0_rules : Nat → Option Nat} {mX0_rewrite : Nat → Option Nat} {mX0_disk : Nat → Option Nat} {mX0_tape : Nat → Option Nat} {mX0_size : Nat → Int32} {mX0_begins : Nat → Option Nat} {mX0_ends : Nat → Option Nat} {mX0_words : Nat → Int32} {mX0_args : Nat → Option Nat} {mX0_answers : Nat → Option Nat} {mX0_threw : Nat → Option Nat} {mX0_done : Nat → Int32} {mX0_wrong : Nat → Int32} {mX0_entries : Nat → Option Nat} {mX0_entryCount : Nat → Int32} {mX44_room : Nat → Int32} {mX44_number : Nat → Int32} {mX44_word : Nat → Option Nat} {mX44_kinds : Nat → Option Nat} {mJ1_modCount : Nat → Int32} {mJ2_elementData : Nat → Option Nat} {mJ2_size : Nat → Int32} {a : Nat} {v : Option Nat} (hk : kd a = 1) : va_up (cSH ci d kd an ai al ar mX0_roomNames mX0_calls mX0_names mX0_versions mX0_values mX0_proofs mX0_rights mX0_classes mX0_facets mX0_tables mX0_rules mX0_rewrite mX0_disk mX0_tape mX0_size mX0_begins mX0_ends mX0_words mX0_args mX0_answers mX0_threw mX0_done mX0_wrong mX0_entries mX0_entryCount mX44_room mX44_number mX44_word mX44_kinds mJ1_modCount mJ2_elementData mJ2_size) a (.inr (ci 0, [va_rf (mX0_roomNames a), va_rf (mX0_calls a), va_rf (mX0_names a), va_rf (mX0_versions a), va_rf v, va_rf (mX0_proofs a), va_rf (mX0_rights a), va_rf (mX0_classes a), va_rf (mX0_facets a), va_rf (mX0_tables a), va_rf (mX0_rules a), va_rf (mX0_rewrite a), va_rf (mX0_disk a), va_rf (mX0_tape a), .int (mX0_size a), va_rf (mX0_begins a), va_rf (mX0_ends a), .int (mX0_words a), va_rf (mX0_args a), va_rf (mX0_answers a), va_rf (mX0_threw a), .int (mX0_done a), .int (mX0_wrong a), va_rf (mX0_entries a), .int (mX0_entryCount a)])) = (cSH ci d kd an ai al ar mX0_roomNames mX0_calls mX0_names mX0_versions (va_up mX0_values a v) mX0_proofs mX0_rights mX0_classes mX0_facets mX0_tables mX0_rules mX0_rewrite mX0_disk mX0_tape mX0_size mX0_begins mX0_ends mX0_words mX0_args mX0_answers mX0_threw mX0_done mX0_wrong mX0_entries mX0_entryCount mX44_room mX44_number mX44_word mX44_kinds mJ1_modCount mJ2_elementData mJ2_size) := by
  funext b
  by_cases h : b = a
  · subst h
    rw [va_up_self]
    unfold cSH
    rw [hk]
    simp only [va_up_self]
  · rw [va_up_ne _ _ h]
    unfold cSH
    simp only [va_up_ne _ _ h]
theorem cSH_1_5 {ci : Nat → Nat} {d : Nat → ClassId} {kd : Nat → Nat} {an : Nat → Nat} {ai : Nat → Nat → Int32} {al : Nat → Nat → Int64} {ar : Nat → Nat → Option Nat} {mX0_roomNames : Nat → Option Nat} {mX0_calls : Nat → Option Nat} {mX0_names : Nat → Option Nat} {mX0_versions : Nat → Option Nat} {mX0_values : Nat → Option Nat} {mX0_proofs : Nat → Option Nat} {mX0_rights : Nat → Option Nat} {mX0_classes : Nat → Option Nat} {mX0_facets : Nat → Option Nat} {mX0_tables : Nat → Option Nat} {mX0_rules : Nat → Option Nat} {mX0_rewrite : Nat → Option Nat} {mX0_disk : Nat → Option Nat} {mX0_tape : Nat → Option Nat} {mX0_size : Nat → Int32} {mX0_begins : Nat → Option Nat} {mX0_ends : Nat → Option Nat} {mX0_words : Nat → Int32} {mX0_args : Nat → Option Nat} {mX0_answers : Nat → Option Nat} {mX0_threw : Nat → Option Nat} {mX0_done : Nat → Int32} {mX0_wrong : Nat → Int32} {mX0_entries : Nat → Option Nat} {mX0_entryCount : Nat → Int32} {mX44_room : Nat → Int32} {mX44_number : Nat → Int32} {mX44_word : Nat → Option Nat} {mX44_kinds : Nat → Option Nat} {mJ1_modCount : Nat → Int32} {mJ2_elementData : Nat → Option Nat} {mJ2_size : Nat → Int32} {a : Nat} {v : Option Nat} (hk : kd a = 1) : va_up (cSH ci d kd an ai al ar mX0_roomNames mX0_calls mX0_names mX0_versions mX0_values mX0_proofs mX0_rights mX0_classes mX0_facets mX0_tables mX0_rules mX0_rewrite mX0_disk mX0_tape mX0_size mX0_begins mX0_ends mX0_words mX0_args mX0_answers mX0_threw mX0_done mX0_wrong mX0_entries mX0_entryCount mX44_room mX44_number mX44_word mX44_kinds mJ1_modCount mJ2_elementData mJ2_size) a (.inr (ci 0, [va_rf (mX0_roomNames a), va_rf (mX0_calls a), va_rf (mX0_names a), va_rf (mX0_versions a), va_rf (mX0_values a), va_rf v, va_rf (mX0_rights a), va_rf (mX0_classes a), va_rf (mX0_facets a), va_rf (mX0_tables a), va_rf (mX0_rules a), va_rf (mX0_rewrite a), va_rf (mX0_disk a), va_rf (mX0_tape a), .int (mX0_size a), va_rf (mX0_begins a), va_rf (mX0_ends a), .int (mX0_words a), va_rf (mX0_args a), va_rf (mX0_answers a), va_rf (mX0_threw a), .int (mX0_done a), .int (mX0_wrong a), va_rf (mX0_entries a), .int (mX0_entryCount a)])) = (cSH ci d kd an ai al ar mX0_roomNames mX0_calls mX0_names mX0_versions mX0_values (va_up mX0_proofs a v) mX0_rights mX0_classes mX0_facets mX0_tables mX0_rules mX0_rewrite mX0_disk mX0_tape mX0_size mX0_begins mX0_ends mX0_words mX0_args mX0_answers mX0_threw mX0_done mX0_wrong mX0_entries mX0_entryCount mX44_room mX44_number mX44_word mX44_kinds mJ1_modCount mJ2_elementData mJ2_size) := by
  funext b
  by_cases h : b = a
  · subst h
    rw [va_up_self]
    unfold cSH
    rw [hk]
    simp only [va_up_self]
  · rw [va_up_ne _ _ h]
    unfold cSH
    simp only [va_up_ne _ _ h]
theorem cSH_1_6 {ci : Nat → Nat} {d : Nat → ClassId} {kd : Nat → Nat} {an : Nat → Nat} {ai : Nat → Nat → Int32} {al : Nat → Nat → Int64} {ar : Nat → Nat → Option Nat} {mX0_roomNames : Nat → Option Nat} {mX0_calls : Nat → Option Nat} {mX0_names : Nat → Option Nat} {mX0_versions : Nat → Option Nat} {mX0_values : Nat → Option Nat} {mX0_proofs : Nat → Option Nat} {mX0_rights : Nat → Option Nat} {mX0_classes : Nat → Option Nat} {mX0_facets : Nat → Option Nat} {mX0_tables : Nat → Option Nat} {mX0_rules : Nat → Option Nat} {mX0_rewrite : Nat → Option Nat} {mX0_disk : Nat → Option Nat} {mX0_tape : Nat → Option Nat} {mX0_size : Nat → Int32} {mX0_begins : Nat → Option Nat} {mX0_ends : Nat → Option Nat} {mX0_words : Nat → Int32} {mX0_args : Nat → Option Nat} {mX0_answers : Nat → Option Nat} {mX0_threw : Nat → Option Nat} {mX0_done : Nat → Int32} {mX0_wrong : Nat → Int32} {mX0_entries : Nat → Option Nat} {mX0_entryCount : Nat → Int32} {mX44_room : Nat → Int32} {mX44_number : Nat → Int32} {mX44_word : Nat → Option Nat} {mX44_kinds : Nat → Option Nat} {mJ1_modCount : Nat → Int32} {mJ2_elementData : Nat → Option Nat} {mJ2_size : Nat → Int32} {a : Nat} {v : Option Nat} (hk : kd a = 1) : va_up (cSH ci d kd an ai al ar mX0_roomNames mX0_calls mX0_names mX0_versions mX0_values mX0_proofs mX0_rights mX0_classes mX0_facets mX0_tables mX0_rules mX0_rewrite mX0_disk mX0_tape mX0_size mX0_begins mX0_ends mX0_words mX0_args mX0_answers mX0_threw mX0_done mX0_wrong mX0_entries mX0_entryCount mX44_room mX44_number mX44_word mX44_kinds mJ1_modCount mJ2_elementData mJ2_size) a (.inr (ci 0, [va_rf (mX0_roomNames a), va_rf (mX0_calls a), va_rf (mX0_names a), va_rf (mX0_versions a), va_rf (mX0_values a), va_rf (mX0_proofs a), va_rf v, va_rf (mX0_classes a), va_rf (mX0_facets a), va_rf (mX0_tables a), va_rf (mX0_rules a), va_rf (mX0_rewrite a), va_rf (mX0_disk a), va_rf (mX0_tape a), .int (mX0_size a), va_rf (mX0_begins a), va_rf (mX0_ends a), .int (mX0_words a), va_rf (mX0_args a), va_rf (mX0_answers a), va_rf (mX0_threw a), .int (mX0_done a), .int (mX0_wrong a), va_rf (mX0_entries a), .int (mX0_entryCount a)])) = (cSH ci d kd an ai al ar mX0_roomNames mX0_calls mX0_names mX0_versions mX0_values mX0_proofs (va_up mX0_rights a v) mX0_classes mX0_facets mX0_tables mX0_rules mX0_rewrite mX0_disk mX0_tape mX0_size mX0_begins mX0_ends mX0_words mX0_args mX0_answers mX0_threw mX0_done mX0_wrong mX0_entries mX0_entryCount mX44_room mX44_number mX44_word mX44_kinds mJ1_modCount mJ2_elementData mJ2_size) := by
  funext b
  by_cases h : b = a
  · subst h
    rw [va_up_self]
    unfold cSH
    rw [hk]
    simp only [va_up_self]
  · rw [va_up_ne _ _ h]
    unfold cSH
    simp only [va_up_ne _ _ h]
theorem cSH_1_7 {ci : Nat → Nat} {d : Nat → ClassId} {kd : Nat → Nat} {an : Nat → Nat} {ai : Nat → Nat → Int32} {al : Nat → Nat → Int64} {ar : Nat → Nat → Option Nat} {mX0_roomNames : Nat → Option Nat} {mX0_calls : Nat → Option Nat} {mX0_names : Nat → Option Nat} {mX0_versions : Nat → Option Nat} {mX0_values : Nat → Option Nat} {mX0_proofs : Nat → Option Nat} {mX0_rights : Nat → Option Nat} {mX0_classes : Nat → Option Nat} {mX0_facets : Nat → Option Nat} {mX0_tables : Nat → Option Nat} {mX0_rules : Nat → Option Nat} {mX0_rewrite : Nat → Option Nat} {mX0_disk : Nat → Option Nat} {mX0_tape : Nat → Option Nat} {mX0_size : Nat → Int32} {mX0_begins : Nat → Option Nat} {mX0_ends : Nat → Option Nat} {mX0_words : Nat → Int32} {mX0_args : Nat → Option Nat} {mX0_answers : Nat → Option Nat} {mX0_threw : Nat → Option Nat} {mX0_done : Nat → Int32} {mX0_wrong : Nat → Int32} {mX0_entries : Nat → Option Nat} {mX0_entryCount : Nat → Int32} {mX44_room : Nat → Int32} {mX44_number : Nat → Int32} {mX44_word : Nat → Option Nat} {mX44_kinds : Nat → Option Nat} {mJ1_modCount : Nat → Int32} {mJ2_elementData : Nat → Option Nat} {mJ2_size : Nat → Int32} {a : Nat} {v : Option Nat} (hk : kd a = 1) : va_up (cSH ci d kd an ai al ar mX0_roomNames mX0_calls mX0_names mX0_versions mX0_values mX0_proofs mX0_rights mX0_classes mX0_facets mX0_tables mX0_rules mX0_rewrite mX0_disk mX0_tape mX0_size mX0_begins mX0_ends mX0_words mX0_args mX0_answers mX0_threw mX0_done mX0_wrong mX0_entries mX0_entryCount mX44_room mX44_number mX44_word mX44_kinds mJ1_modCount mJ2_elementData mJ2_size) a (.inr (ci 0, [va_rf (mX0_roomNames a), va_rf (mX0_calls a), va_rf (mX0_names a), va_rf (mX0_versions a), va_rf (mX0_values a), va_rf (mX0_proofs a), va_rf (mX0_rights a), va_rf v, va_rf (mX0_facets a), va_rf (mX0_tables a), va_rf (mX0_rules a), va_rf (mX0_rewrite a), va_rf (mX0_disk a), va_rf (mX0_tape a), .int (mX0_size a), va_rf (mX0_begins a), va_rf (mX0_ends a), .int (mX0_words a), va_rf (mX0_args a), va_rf (mX0_answers a), va_rf (mX0_threw a), .int (mX0_done a), .int (mX0_wrong a), va_rf (mX0_entries a), .int (mX0_entryCount a)])) = (cSH ci d kd an ai al ar mX0_roomNames mX0_calls mX0_names mX0_versions mX0_values mX0_proofs mX0_rights (va_up mX0_classes a v) mX0_facets mX0_tables mX0_rules mX0_rewrite mX0_disk mX0_tape mX0_size mX0_begins mX0_ends mX0_words mX0_args mX0_answers mX0_threw mX0_done mX0_wrong mX0_entries mX0_entryCount mX44_room mX44_number mX44_word mX44_kinds mJ1_modCount mJ2_elementData mJ2_size) := by
  funext b
  by_cases h : b = a
  · subst h
    rw [va_up_self]
    unfold cSH
    rw [hk]
    simp only [va_up_self]
  · rw [va_up_ne _ _ h]
    unfold cSH
    simp only [va_up_ne _ _ h]
theorem cSH_1_8 {ci : Nat → Nat} {d : Nat → ClassId} {kd : Nat → Nat} {an : Nat → Nat} {ai : Nat → Nat → Int32} {al : Nat → Nat → Int64} {ar : Nat → Nat → Option Nat} {mX0_roomNames : Nat → Option Nat} {mX0_calls : Nat → Option Nat} {mX0_names : Nat → Option Nat} {mX0_versions : Nat → Option Nat} {mX0_values : Nat → Option Nat} {mX0_proofs : Nat → Option Nat} {mX0_rights : Nat → Option Nat} {mX0_classes : Nat → Option Nat} {mX0_facets : Nat → Option Nat} {mX0_tables : Nat → Option Nat} {mX0_rules : Nat → Option Nat} {mX0_rewrite : Nat → Option Nat} {mX0_disk : Nat → Option Nat} {mX0_tape : Nat → Option Nat} {mX0_size : Nat → Int32} {mX0_begins : Nat → Option Nat} {mX0_ends : Nat → Option Nat} {mX0_words : Nat → Int32} {mX0_args : Nat → Option Nat} {mX0_answers : Nat → Option Nat} {mX0_threw : Nat → Option Nat} {mX0_done : Nat → Int32} {mX0_wrong : Nat → Int32} {mX0_entries : Nat → Option Nat} {mX0_entryCount : Nat → Int32} {mX44_room : Nat → Int32} {mX44_number : Nat → Int32} {mX44_word : Nat → Option Nat} {mX44_kinds : Nat → Option Nat} {mJ1_modCount : Nat → Int32} {mJ2_elementData : Nat → Option Nat} {mJ2_size : Nat → Int32} {a : Nat} {v : Option Nat} (hk : kd a = 1) : va_up (cSH ci d kd an ai al ar mX0_roomNames mX0_calls mX0_names mX0_versions mX0_values mX0_proofs mX0_rights mX0_classes mX0_facets mX0_tables mX0_rules mX0_rewrite mX0_disk mX0_tape mX0_size mX0_begins mX0_ends mX0_words mX0_args mX0_answers mX0_threw mX0_done mX0_wrong mX0_entries mX0_entryCount mX44_room mX44_number mX44_word mX44_kinds mJ1_modCount mJ2_elementData mJ2_size) a (.inr (ci 0, [va_rf (mX0_roomNames a), va_rf (mX0_calls a), va_rf (mX0_names a), va_rf (mX0_versions a), va_rf (mX0_values a), va_rf (mX0_proofs a), va_rf (mX0_rights a), va_rf (mX0_classes a), va_rf v, va_rf (mX0_tables a), va_rf (mX0_rules a), va_rf (mX0_rewrite a), va_rf (mX0_disk a), va_rf (mX0_tape a), .int (mX0_size a), va_rf (mX0_begins a), va_rf (mX0_ends a), .int (mX0_words a), va_rf (mX0_args a), va_rf (mX0_answers a), va_rf (mX0_threw a), .int (mX0_done a), .int (mX0_wrong a), va_rf (mX0_entries a), .int (mX0_entryCount a)])) = (cSH ci d kd an ai al ar mX0_roomNames mX0_calls mX0_names mX0_versions mX0_values mX0_proofs mX0_rights mX0_classes (va_up mX0_facets a v) mX0_tables mX0_rules mX0_rewrite mX0_disk mX0_tape mX0_size mX0_begins mX0_ends mX0_words mX0_args mX0_answers mX0_threw mX0_done mX0_wrong mX0_entries mX0_entryCount mX44_room mX44_number mX44_word mX44_kinds mJ1_modCount mJ2_elementData mJ2_size) := by
  funext b
  by_cases h : b = a
  · subst h
    rw [va_up_self]
    unfold cSH
    rw [hk]
    simp only [va_up_self]
  · rw [va_up_ne _ _ h]
    unfold cSH
    simp only [va_up_ne _ _ h]
theorem cSH_1_9 {ci : Nat → Nat} {d : Nat → ClassId} {kd : Nat → Nat} {an : Nat → Nat} {ai : Nat → Nat → Int32} {al : Nat → Nat → Int64} {ar : Nat → Nat → Option Nat} {mX0_roomNames : Nat → Option Nat} {mX0_calls : Nat → Option Nat} {mX0_names : Nat → Option Nat} {mX0_versions : Nat → Option Nat} {mX0_values : Nat → Option Nat} {mX0_proofs : Nat → Option Nat} {mX0_rights : Nat → Option Nat} {mX0_classes : Nat → Option Nat} {mX0_facets : Nat → Option Nat} {mX0_tables : Nat → Option Nat} {mX0_rules : Nat → Option Nat} {mX0_rewrite : Nat → Option Nat} {mX0_disk : Nat → Option Nat} {mX0_tape : Nat → Option Nat} {mX0_size : Nat → Int32} {mX0_begins : Nat → Option Nat} {mX0_ends : Nat → Option Nat} {mX0_words : Nat → Int32} {mX0_args : Nat → Option Nat} {mX0_answers : Nat → Option Nat} {mX0_threw : Nat → Option Nat} {mX0_done : Nat → Int32} {mX0_wrong : Nat → Int32} {mX0_entries : Nat → Option Nat} {mX0_entryCount : Nat → Int32} {mX44_room : Nat → Int32} {mX44_number : Nat → Int32} {mX44_word : Nat → Option Nat} {mX44_kinds : Nat → Option Nat} {mJ1_modCount : Nat → Int32} {mJ2_elementData : Nat → Option Nat} {mJ2_size : Nat → Int32} {a : Nat} {v : Option Nat} (hk : kd a = 1) : va_up (cSH ci d kd an ai al ar mX0_roomNames mX0_calls mX0_names mX0_versions mX0_values mX0_proofs mX0_rights mX0_classes mX0_facets mX0_tables mX0_rules mX0_rewrite mX0_disk mX0_tape mX0_size mX0_begins mX0_ends mX0_words mX0_args mX0_answers mX0_threw mX0_done mX0_wrong mX0_entries mX0_entryCount mX44_room mX44_number mX44_word mX44_kinds mJ1_modCount mJ2_elementData mJ2_size) a (.inr (ci 0, [va_rf (mX0_roomNames a), va_rf (mX0_calls a), va_rf (mX0_names a), va_rf (mX0_versions a), va_rf (mX0_values a), va_rf (mX0_proofs a), va_rf (mX0_rights a), va_rf (mX0_classes a), va_rf (mX0_facets a), va_rf v, va_rf (mX0_rules a), va_rf (mX0_rewrite a), va_rf (mX0_disk a), va_rf (mX0_tape a), .int (mX0_size a), va_rf (mX0_begins a), va_rf (mX0_ends a), .int (mX0_words a), va_rf (mX0_args a), va_rf (mX0_answers a), va_rf (mX0_threw a), .int (mX0_done a), .int (mX0_wrong a), va_rf (mX0_entries a), .int (mX0_entryCount a)])) = (cSH ci d kd an ai al ar mX0_roomNames mX0_calls mX0_names mX0_versions mX0_values mX0_proofs mX0_rights mX0_classes mX0_facets (va_up mX0_tables a v) mX0_rules mX0_rewrite mX0_disk mX0_tape mX0_size mX0_begins mX0_ends mX0_words mX0_args mX0_answers mX0_threw mX0_done mX0_wrong mX0_entries mX0_entryCount mX44_room mX44_number mX44_word mX44_kinds mJ1_modCount mJ2_elementData mJ2_size) := by
  funext b
  by_cases h : b = a
  · subst h
    rw [va_up_self]
    unfold cSH
    rw [hk]
    simp only [va_up_self]
  · rw [va_up_ne _ _ h]
    unfold cSH
    simp only [va_up_ne _ _ h]
theorem cSH_1_10 {ci : Nat → Nat} {d : Nat → ClassId} {kd : Nat → Nat} {an : Nat → Nat} {ai : Nat → Nat → Int32} {al : Nat → Nat → Int64} {ar : Nat → Nat → Option Nat} {mX0_roomNames : Nat → Option Nat} {mX0_calls : Nat → Option Nat} {mX0_names : Nat → Option Nat} {mX0_versions : Nat → Option Nat} {mX0_values : Nat → Option Nat} {mX0_proofs : Nat → Option Nat} {mX0_rights : Nat → Option Nat} {mX0_classes : Nat → Option Nat} {mX0_facets : Nat → Option Nat} {mX0_tables : Nat → Option Nat} {mX0_rules : Nat → Option Nat} {mX0_rewrite : Nat → Option Nat} {mX0_disk : Nat → Option Nat} {mX0_tape : Nat → Option Nat} {mX0_size : Nat → Int32} {mX0_begins : Nat → Option Nat} {mX0_ends : Nat → Option Nat} {mX0_words : Nat → Int32} {mX0_args : Nat → Option Nat} {mX0_answers : Nat → Option Nat} {mX0_threw : Nat → Option Nat} {mX0_done : Nat → Int32} {mX0_wrong : Nat → Int32} {mX0_entries : Nat → Option Nat} {mX0_entryCount : Nat → Int32} {mX44_room : Nat → Int32} {mX44_number : Nat → Int32} {mX44_word : Nat → Option Nat} {mX44_kinds : Nat → Option Nat} {mJ1_modCount : Nat → Int32} {mJ2_elementData : Nat → Option Nat} {mJ2_size : Nat → Int32} {a : Nat} {v : Option Nat} (hk : kd a = 1) : va_up (cSH ci d kd an ai al ar mX0_roomNames mX0_calls mX0_names mX0_versions mX0_values mX0_proofs mX0_rights mX0_classes mX0_facets mX0_tables mX0_rules mX0_rewrite mX0_disk mX0_tape mX0_size mX0_begins mX0_ends mX0_words mX0_args mX0_answers mX0_threw mX0_done mX0_wrong mX0_entries mX0_entryCount mX44_room mX44_number mX44_word mX44_kinds mJ1_modCount mJ2_elementData mJ2_size) a (.inr (ci 0, [va_rf (mX0_roomNames a), va_rf (mX0_calls a), va_rf (mX0_names a), va_rf (mX0_versions a), va_rf (mX0_values a), va_rf (mX0_proofs a), va_rf (mX0_rights a), va_rf (mX0_classes a), va_rf (mX0_facets a), va_rf (mX0_tables a), va_rf v, va_rf (mX0_rewrite a), va_rf (mX0_disk a), va_rf (mX0_tape a), .int (mX0_size a), va_rf (mX0_begins a), va_rf (mX0_ends a), .int (mX0_words a), va_rf (mX0_args a), va_rf (mX0_answers a), va_rf (mX0_threw a), .int (mX0_done a), .int (mX0_wrong a), va_rf (mX0_entries a), .int (mX0_entryCount a)])) = (cSH ci d kd an ai al ar mX0_roomNames mX0_calls mX0_names mX0_versions mX0_values mX0_proofs mX0_rights mX0_classes mX0_facets mX0_tables (va_up mX0_rules a v) mX0_rewrite mX0_disk mX0_tape mX0_size mX0_begins mX0_ends mX0_words mX0_args mX0_answers mX0_threw mX0_done mX0_wrong mX0_entries mX0_entryCount mX44_room mX44_number mX44_word mX44_kinds mJ1_modCount mJ2_elementData mJ2_size) := by
  funext b
  by_cases h : b = a
  · subst h
    rw [va_up_self]
    unfold cSH
    rw [hk]
    simp only [va_up_self]
  · rw [va_up_ne _ _ h]
    unfold cSH
    simp only [va_up_ne _ _ h]
theorem cSH_1_11 {ci : Nat → Nat} {d : Nat → ClassId} {kd : Nat → Nat} {an : Nat → Nat} {ai : Nat → Nat → Int32} {al : Nat → Nat → Int64} {ar : Nat → Nat → Option Nat} {mX0_roomNames : Nat → Option Nat} {mX0_calls : Nat → Option Nat} {mX0_names : Nat → Option Nat} {mX0_versions : Nat → Option Nat} {mX0_values : Nat → Option Nat} {mX0_proofs : Nat → Option Nat} {mX0_rights : Nat → Option Nat} {mX0_classes : Nat → Option Nat} {mX0_facets : Nat → Option Nat} {mX0_tables : Nat → Option Nat} {mX0_rules : Nat → Option Nat} {mX0_rewrite : Nat → Option Nat} {mX0_disk : Nat → Option Nat} {mX0_tape : Nat → Option Nat} {mX0_size : Nat → Int32} {mX0_begins : Nat → Option Nat} {mX0_ends : Nat → Option Nat} {mX0_words : Nat → Int32} {mX0_args : Nat → Option Nat} {mX0_answers : Nat → Option Nat} {mX0_threw : Nat → Option Nat} {mX0_done : Nat → Int32} {mX0_wrong : Nat → Int32} {mX0_entries : Nat → Option Nat} {mX0_entryCount : Nat → Int32} {mX44_room : Nat → Int32} {mX44_number : Nat → Int32} {mX44_word : Nat → Option Nat} {mX44_kinds : Nat → Option Nat} {mJ1_modCount : Nat → Int32} {mJ2_elementData : Nat → Option Nat} {mJ2_size : Nat → Int32} {a : Nat} {v : Option Nat} (hk : kd a = 1) : va_up (cSH ci d kd an ai al ar mX0_roomNames mX0_calls mX0_names mX0_versions mX0_values mX0_proofs mX0_rights mX0_classes mX0_facets mX0_tables mX0_rules mX0_rewrite mX0_disk mX0_tape mX0_size mX0_begins mX0_ends mX0_words mX0_args mX0_answers mX0_threw mX0_done mX0_wrong mX0_entries mX0_entryCount mX44_room mX44_number mX44_word mX44_kinds mJ1_modCount mJ2_elementData mJ2_size) a (.inr (ci 0, [va_rf (mX0_roomNames a), va_rf (mX0_calls a), va_rf (mX0_names a), va_rf (mX0_versions a), va_rf (mX0_values a), va_rf (mX0_proofs a), va_rf (mX0_rights a), va_rf (mX0_classes a), va_rf (mX0_facets a), va_rf (mX0_tables a), va_rf (mX0_rules a), va_rf v, va_rf (mX0_disk a), va_rf (mX0_tape a), .int (mX0_size a), va_rf (mX0_begins a), va_rf (mX0_ends a), .int (mX0_words a), va_rf (mX0_args a), va_rf (mX0_answers a), va_rf (mX0_threw a), .int (mX0_done a), .int (mX0_wrong a), va_rf (mX0_entries a), .int (mX0_entryCount a)])) = (cSH ci d kd an ai al ar mX0_roomNames mX0_calls mX0_names mX0_versions mX0_values mX0_proofs mX0_rights mX0_classes mX0_facets mX0_tables mX0_rules (va_up mX0_rewrite a v) mX0_disk mX0_tape mX0_size mX0_begins mX0_ends mX0_words mX0_args mX0_answers mX0_threw mX0_done mX0_wrong mX0_entries mX0_entryCount mX44_room mX44_number mX44_word mX44_kinds mJ1_modCount mJ2_elementData mJ2_size) := by
  funext b
  by_cases h : b = a
  · subst h
    rw [va_up_self]
    unfold cSH
    rw [hk]
    simp only [va_up_self]
  · rw [va_up_ne _ _ h]
    unfold cSH
    simp only [va_up_ne _ _ h]
theorem cSH_1_12 {ci : Nat → Nat} {d : Nat → ClassId} {kd : Nat → Nat} {an : Nat → Nat} {ai : Nat → Nat → Int32} {al : Nat → Nat → Int64} {ar : Nat → Nat → Option Nat} {mX0_roomNames : Nat → Option Nat} {mX0_calls : Nat → Option Nat} {mX0_names : Nat → Option Nat} {mX0_versions : Nat → Option Nat} {mX0_values : Nat → Option Nat} {mX0_proofs : Nat → Option Nat} {mX0_rights : Nat → Option Nat} {mX0_classes : Nat → Option Nat} {mX0_facets : Nat → Option Nat} {mX0_tables : Nat → Option Nat} {mX0_rules : Nat → Option Nat} {mX0_rewrite : Nat → Option Nat} {mX0_disk : Nat → Option Nat} {mX0_tape : Nat → Option Nat} {mX0_size : Nat → Int32} {mX0_begins : Nat → Option Nat} {mX0_ends : Nat → Option Nat} {mX0_words : Nat → Int32} {mX0_args : Nat → Option Nat} {mX0_answers : Nat → Option Nat} {mX0_threw : Nat → Option Nat} {mX0_done : Nat → Int32} {mX0_wrong : Nat → Int32} {mX0_entries : Nat → Option Nat} {mX0_entryCount : Nat → Int32} {mX44_room : Nat → Int32} {mX44_number : Nat → Int32} {mX44_word : Nat → Option Nat} {mX44_kinds : Nat → Option Nat} {mJ1_modCount : Nat → Int32} {mJ2_elementData : Nat → Option Nat} {mJ2_size : Nat → Int32} {a : Nat} {v : Option Nat} (hk : kd a = 1) : va_up (cSH ci d kd an ai al ar mX0_roomNames mX0_calls mX0_names mX0_versions mX0_values mX0_proofs mX0_rights mX0_classes mX0_facets mX0_tables mX0_rules mX0_rewrite mX0_disk mX0_tape mX0_size mX0_begins mX0_ends mX0_words mX0_args mX0_answers mX0_threw mX0_done mX0_wrong mX0_entries mX0_entryCount mX44_room mX44_number mX44_word mX44_kinds mJ1_modCount mJ2_elementData mJ2_size) a (.inr (ci 0, [va_rf (mX0_roomNames a), va_rf (mX0_calls a), va_rf (mX0_names a), va_rf (mX0_versions a), va_rf (mX0_values a), va_rf (mX0_proofs a), va_rf (mX0_rights a), va_rf (mX0_classes a), va_rf (mX0_facets a), va_rf (mX0_tables a), va_rf (mX0_rules a), va_rf (mX0_rewrite a), va_rf v, va_rf (mX0_tape a), .int (mX0_size a), va_rf (mX0_begins a), va_rf (mX0_ends a), .int (mX0_words a), va_rf (mX0_args a), va_rf (mX0_answers a), va_rf (mX0_threw a), .int (mX0_done a), .int (mX0_wrong a), va_rf (mX0_entries a), .int (mX0_entryCount a)])) = (cSH ci d kd an ai al ar mX0_roomNames mX0_calls mX0_names mX0_versions mX0_values mX0_proofs mX0_rights mX0_classes mX0_facets mX0_tables mX0_rules mX0_rewrite (va_up mX0_disk a v) mX0_tape mX0_size mX0_begins mX0_ends mX0_words mX0_args mX0_answers mX0_threw mX0_done mX0_wrong mX0_entries mX0_entryCount mX44_room mX44_number mX44_word mX44_kinds mJ1_modCount mJ2_elementData mJ2_size) := by
  funext b
  by_cases h : b = a
  · subst h
    rw [va_up_self]
    unfold cSH
    rw [hk]
    simp only [va_up_self]
  · rw [va_up_ne _ _ h]
    unfold cSH
    simp only [va_up_ne _ _ h]
theorem cSH_1_13 {ci : Nat → Nat} {d : Nat → ClassId} {kd : Nat → Nat} {an : Nat → Nat} {ai : Nat → Nat → Int32} {al : Nat → Nat → Int64} {ar : Nat → Nat → Option Nat} {mX0_roomNames : Nat → Option Nat} {mX0_calls : Nat → Option Nat} {mX0_names : Nat → Option Nat} {mX0_versions : Nat → Option Nat} {mX0_values : Nat → Option Nat} {mX0_proofs : Nat → Option Nat} {mX0_rights : Nat → Option Nat} {mX0_classes : Nat → Option Nat} {mX0_facets : Nat → Option Nat} {mX0_tables : Nat → Option Nat} {mX0_rules : Nat → Option Nat} {mX0_rewrite : Nat → Option Nat} {mX0_disk : Nat → Option Nat} {mX0_tape : Nat → Option Nat} {mX0_size : Nat → Int32} {mX0_begins : Nat → Option Nat} {mX0_ends : Nat → Option Nat} {mX0_words : Nat → Int32} {mX0_args : Nat → Option Nat} {mX0_answers : Nat → Option Nat} {mX0_threw : Nat → Option Nat} {mX0_done : Nat → Int32} {mX0_wrong : Nat → Int32} {mX0_entries : Nat → Option Nat} {mX0_entryCount : Nat → Int32} {mX44_room : Nat → Int32} {mX44_number : Nat → Int32} {mX44_word : Nat → Option Nat} {mX44_kinds : Nat → Option Nat} {mJ1_modCount : Nat → Int32} {mJ2_elementData : Nat → Option Nat} {mJ2_size : Nat → Int32} {a : Nat} {v : Option Nat} (hk : kd a = 1) : va_up (cSH ci d kd an ai al ar mX0_roomNames mX0_calls mX0_names mX0_versions mX0_values mX0_proofs mX0_rights mX0_classes mX0_facets mX0_tables mX0_rules mX0_rewrite mX0_disk mX0_tape mX0_size mX0_begins mX0_ends mX0_words mX0_args mX0_answers mX0_threw mX0_done mX0_wrong mX0_entries mX0_entryCount mX44_room mX44_number mX44_word mX44_kinds mJ1_modCount mJ2_elementData mJ2_size) a (.inr (ci 0, [va_rf (mX0_roomNames a), va_rf (mX0_calls a), va_rf (mX0_names a), va_rf (mX0_versions a), va_rf (mX0_values a), va_rf (mX0_proofs a), va_rf (mX0_rights a), va_rf (mX0_classes a), va_rf (mX0_facets a), va_rf (mX0_tables a), va_rf (mX0_rules a), va_rf (mX0_rewrite a), va_rf (mX0_disk a), va_rf v, .int (mX0_size a), va_rf (mX0_begins a), va_rf (mX0_ends a), .int (mX0_words a), va_rf (mX0_args a), va_rf (mX0_answers a), va_rf (mX0_threw a), .int (mX0_done a), .int (mX0_wrong a), va_rf (mX0_entries a), .int (mX0_entryCount a)])) = (cSH ci d kd an ai al ar mX0_roomNames mX0_calls mX0_names mX0_versions mX0_values mX0_proofs mX0_rights mX0_classes mX0_facets mX0_tables mX0_rules mX0_rewrite mX0_disk (va_up mX0_tape a v) mX0_size mX0_begins mX0_ends mX0_words mX0_args mX0_answers mX0_threw mX0_done mX0_wrong mX0_entries mX0_entryCount mX44_room mX44_number mX44_word mX44_kinds mJ1_modCount mJ2_elementData mJ2_size) := by
  funext b
  by_cases h : b = a
  · subst h
    rw [va_up_self]
    unfold cSH
    rw [hk]
    simp only [va_up_self]
  · rw [va_up_ne _ _ h]
    unfold cSH
    simp only [va_up_ne _ _ h]
theorem cSH_1_14 {ci : Nat → Nat} {d : Nat → ClassId} {kd : Nat → Nat} {an : Nat → Nat} {ai : Nat → Nat → Int32} {al : Nat → Nat → Int64} {ar : Nat → Nat → Option Nat} {mX0_roomNames : Nat → Option Nat} {mX0_calls : Nat → Option Nat} {mX0_names : Nat → Option Nat} {mX0_versions : Nat → Option Nat} {mX0_values : Nat → Option Nat} {mX0_proofs : Nat → Option Nat} {mX0_rights : Nat → Option Nat} {mX0_classes : Nat → Option Nat} {mX0_facets : Nat → Option Nat} {mX0_tables : Nat → Option Nat} {mX0_rules : Nat → Option Nat} {mX0_rewrite : Nat → Option Nat} {mX0_disk : Nat → Option Nat} {mX0_tape : Nat → Option Nat} {mX0_size : Nat → Int32} {mX0_begins : Nat → Option Nat} {mX0_ends : Nat → Option Nat} {mX0_words : Nat → Int32} {mX0_args : Nat → Option Nat} {mX0_answers : Nat → Option Nat} {mX0_threw : Nat → Option Nat} {mX0_done : Nat → Int32} {mX0_wrong : Nat → Int32} {mX0_entries : Nat → Option Nat} {mX0_entryCount : Nat → Int32} {mX44_room : Nat → Int32} {mX44_number : Nat → Int32} {mX44_word : Nat → Option Nat} {mX44_kinds : Nat → Option Nat} {mJ1_modCount : Nat → Int32} {mJ2_elementData : Nat → Option Nat} {mJ2_size : Nat → Int32} {a : Nat} {v : Int32} (hk : kd a = 1) : va_up (cSH ci d kd an ai al ar mX0_roomNames mX0_calls mX0_names mX0_versions mX0_values mX0_proofs mX0_rights mX0_classes mX0_facets mX0_tables mX0_rules mX0_rewrite mX0_disk mX0_tape mX0_size mX0_begins mX0_ends mX0_words mX0_args mX0_answers mX0_threw mX0_done mX0_wrong mX0_entries mX0_entryCount mX44_room mX44_number mX44_word mX44_kinds mJ1_modCount mJ2_elementData mJ2_size) a (.inr (ci 0, [va_rf (mX0_roomNames a), va_rf (mX0_calls a), va_rf (mX0_names a), va_rf (mX0_versions a), va_rf (mX0_values a), va_rf (mX0_proofs a), va_rf (mX0_rights a), va_rf (mX0_classes a), va_rf (mX0_facets a), va_rf (mX0_tables a), va_rf (mX0_rules a), va_rf (mX0_rewrite a), va_rf (mX0_disk a), va_rf (mX0_tape a), .int v, va_rf (mX0_begins a), va_rf (mX0_ends a), .int (mX0_words a), va_rf (mX0_args a), va_rf (mX0_answers a), va_rf (mX0_threw a), .int (mX0_done a), .int (mX0_wrong a), va_rf (mX0_entries a), .int (mX0_entryCount a)])) = (cSH ci d kd an ai al ar mX0_roomNames mX0_calls mX0_names mX0_versions mX0_values mX0_proofs mX0_rights mX0_classes mX0_facets mX0_tables mX0_rules mX0_rewrite mX0_disk mX0_tape (va_up mX0_size a v) mX0_begins mX0_ends mX0_words mX0_args mX0_answers mX0_threw mX0_done mX0_wrong mX0_entries mX0_entryCount mX44_room mX44_number mX44_word mX44_kinds mJ1_modCount mJ2_elementData mJ2_size) := by
  funext b
  by_cases h : b = a
  · subst h
    rw [va_up_self]
    unfold cSH
    rw [hk]
    simp only [va_up_self]
  · rw [va_up_ne _ _ h]
    unfold cSH
    simp only [va_up_ne _ _ h]
theorem cSH_1_15 {ci : Nat → Nat} {d : Nat → ClassId} {kd : Nat → Nat} {an : Nat → Nat} {ai : Nat → Nat → Int32} {al : Nat → Nat → Int64} {ar : Nat → Nat → Option Nat} {mX0_roomNames : Nat → Option Nat} {mX0_calls : Nat → Option Nat} {mX0_names : Nat → Option Nat} {mX0_versions : Nat → Option Nat} {mX0_values : Nat → Option Nat} {mX0_proofs : Nat → Option Nat} {mX0_rights : Nat → Option Nat} {mX0_classes : Nat → Option Nat} {mX0_facets : Nat → Option Nat} {mX0_tables : Nat → Option Nat} {mX0_rules : Nat → Option Nat} {mX0_rewrite : Nat → Option Nat} {mX0_disk : Nat → Option Nat} {mX0_tape : Nat → Option Nat} {mX0_size : Nat → Int32} {mX0_begins : Nat → Option Nat} {mX0_ends : Nat → Option Nat} {mX0_words : Nat → Int32} {mX0_args : Nat → Option Nat} {mX0_answers : Nat → Option Nat} {mX0_threw : Nat → Option Nat} {mX0_done : Nat → Int32} {mX0_wrong : Nat → Int32} {mX0_entries : Nat → Option Nat} {mX0_entryCount : Nat → Int32} {mX44_room : Nat → Int32} {mX44_number : Nat → Int32} {mX44_word : Nat → Option Nat} {mX44_kinds : Nat → Option Nat} {mJ1_modCount : Nat → Int32} {mJ2_elementData : Nat → Option Nat} {mJ2_size : Nat → Int32} {a : Nat} {v : Option Nat} (hk : kd a = 1) : va_up (cSH ci d kd an ai al ar mX0_roomNames mX0_calls mX0_names mX0_versions mX0_values mX0_proofs mX0_rights mX0_classes mX0_facets mX0_tables mX0_rules mX0_rewrite mX0_disk mX0_tape mX0_size mX0_begins mX0_ends mX0_words mX0_args mX0_answers mX0_threw mX0_done mX0_wrong mX0_entries mX0_entryCount mX44_room mX44_number mX44_word mX44_kinds mJ1_modCount mJ2_elementData mJ2_size) a (.inr (ci 0, [va_rf (mX0_roomNames a), va_rf (mX0_calls a), va_rf (mX0_names a), va_rf (mX0_versions a), va_rf (mX0_values a), va_rf (mX0_proofs a), va_rf (mX0_rights a), va_rf (mX0_classes a), va_rf (mX0_facets a), va_rf (mX0_tables a), va_rf (mX0_rules a), va_rf (mX0_rewrite a), va_rf (mX0_disk a), va_rf (mX0_tape a), .int (mX0_size a), va_rf v, va_rf (mX0_ends a), .int (mX0_words a), va_rf (mX0_args a), va_rf (mX0_answers a), va_rf (mX0_threw a), .int (mX0_done a), .int (mX0_wrong a), va_rf (mX0_entries a), .int (mX0_entryCount a)])) = (cSH ci d kd an ai al ar mX0_roomNames mX0_calls mX0_names mX0_versions mX0_values mX0_proofs mX0_rights mX0_classes mX0_facets mX0_tables mX0_rules mX0_rewrite mX0_disk mX0_tape mX0_size (va_up mX0_begins a v) mX0_ends mX0_words mX0_args mX0_answers mX0_threw mX0_done mX0_wrong mX0_entries mX0_entryCount mX44_room mX44_number mX44_word mX44_kinds mJ1_modCount mJ2_elementData mJ2_size) := by
  funext b
  by_cases h : b = a
  · subst h
    rw [va_up_self]
    unfold cSH
    rw [hk]
    simp only [va_up_self]
  · rw [va_up_ne _ _ h]
    unfold cSH
    simp only [va_up_ne _ _ h]
theorem cSH_1_16 {ci : Nat → Nat} {d : Nat → ClassId} {kd : Nat → Nat} {an : Nat → Nat} {ai : Nat → Nat → Int32} {al : Nat → Nat → Int64} {ar : Nat → Nat → Option Nat} {mX0_roomNames : Nat → Option Nat} {mX0_calls : Nat → Option Nat} {mX0_names : Nat → Option Nat} {mX0_versions : Nat → Option Nat} {mX0_values : Nat → Option Nat} {mX0_proofs : Nat → Option Nat} {mX0_rights : Nat → Option Nat} {mX0_classes : Nat → Option Nat} {mX0_facets : Nat → Option Nat} {mX0_tables : Nat → Option Nat} {mX0_rules : Nat → Option Nat} {mX0_rewrite : Nat → Option Nat} {mX0_disk : Nat → Option Nat} {mX0_tape : Nat → Option Nat} {mX0_size : Nat → Int32} {mX0_begins : Nat → Option Nat} {mX0_ends : Nat → Option Nat} {mX0_words : Nat → Int32} {mX0_args : Nat → Option Nat} {mX0_answers : Nat → Option Nat} {mX0_threw : Nat → Option Nat} {mX0_done : Nat → Int32} {mX0_wrong : Nat → Int32} {mX0_entries : Nat → Option Nat} {mX0_entryCount : Nat → Int32} {mX44_room : Nat → Int32} {mX44_number : Nat → Int32} {mX44_word : Nat → Option Nat} {mX44_kinds : Nat → Option Nat} {mJ1_modCount : Nat → Int32} {mJ2_elementData : Nat → Option Nat} {mJ2_size : Nat → Int32} {a : Nat} {v : Option Nat} (hk : kd a = 1) : va_up (cSH ci d kd an ai al ar mX0_roomNames mX0_calls mX0_names mX0_versions mX0_values mX0_proofs mX0_rights mX0_classes mX0_facets mX0_tables mX0_rules mX0_rewrite mX0_disk mX0_tape mX0_size mX0_begins mX0_ends mX0_words mX0_args mX0_answers mX0_threw mX0_done mX0_wrong mX0_entries mX0_entryCount mX44_room mX44_number mX44_word mX44_kinds mJ1_modCount mJ2_elementData mJ2_size) a (.inr (ci 0, [va_rf (mX0_roomNames a), va_rf (mX0_calls a), va_rf (mX0_names a), va_rf (mX0_versions a), va_rf (mX0_values a), va_rf (mX0_proofs a), va_rf (mX0_rights a), va_rf (mX0_classes a), va_rf (mX0_facets a), va_rf (mX0_tables a), va_rf (mX0_rules a), va_rf (mX0_rewrite a), va_rf (mX0_disk a), va_rf (mX0_tape a), .int (mX0_size a), va_rf (mX0_begins a), va_rf v, .int (mX0_words a), va_rf (mX0_args a), va_rf (mX0_answers a), va_rf (mX0_threw a), .int (mX0_done a), .int (mX0_wrong a), va_rf (mX0_entries a), .int (mX0_entryCount a)])) = (cSH ci d kd an ai al ar mX0_roomNames mX0_calls mX0_names mX0_versions mX0_values mX0_proofs mX0_rights mX0_classes mX0_facets mX0_tables mX0_rules mX0_rewrite mX0_disk mX0_tape mX0_size mX0_begins (va_up mX0_ends a v) mX0_words mX0_args mX0_answers mX0_threw mX0_done mX0_wrong mX0_entries mX0_entryCount mX44_room mX44_number mX44_word mX44_kinds mJ1_modCount mJ2_elementData mJ2_size) := by
  funext b
  by_cases h : b = a
  · subst h
    rw [va_up_self]
    unfold cSH
    rw [hk]
    simp only [va_up_self]
  · rw [va_up_ne _ _ h]
    unfold cSH
    simp only [va_up_ne _ _ h]
theorem cSH_1_17 {ci : Nat → Nat} {d : Nat → ClassId} {kd : Nat → Nat} {an : Nat → Nat} {ai : Nat → Nat → Int32} {al : Nat → Nat → Int64} {ar : Nat → Nat → Option Nat} {mX0_roomNames : Nat → Option Nat} {mX0_calls : Nat → Option Nat} {mX0_names : Nat → Option Nat} {mX0_versions : Nat → Option Nat} {mX0_values : Nat → Option Nat} {mX0_proofs : Nat → Option Nat} {mX0_rights : Nat → Option Nat} {mX0_classes : Nat → Option Nat} {mX0_facets : Nat → Option Nat} {mX0_tables : Nat → Option Nat} {mX0_rules : Nat → Option Nat} {mX0_rewrite : Nat → Option Nat} {mX0_disk : Nat → Option Nat} {mX0_tape : Nat → Option Nat} {mX0_size : Nat → Int32} {mX0_begins : Nat → Option Nat} {mX0_ends : Nat → Option Nat} {mX0_words : Nat → Int32} {mX0_args : Nat → Option Nat} {mX0_answers : Nat → Option Nat} {mX0_threw : Nat → Option Nat} {mX0_done : Nat → Int32} {mX0_wrong : Nat → Int32} {mX0_entries : Nat → Option Nat} {mX0_entryCount : Nat → Int32} {mX44_room : Nat → Int32} {mX44_number : Nat → Int32} {mX44_word : Nat → Option Nat} {mX44_kinds : Nat → Option Nat} {mJ1_modCount : Nat → Int32} {mJ2_elementData : Nat → Option Nat} {mJ2_size : Nat → Int32} {a : Nat} {v : Int32} (hk : kd a = 1) : va_up (cSH ci d kd an ai al ar mX0_roomNames mX0_calls mX0_names mX0_versions mX0_values mX0_proofs mX0_rights mX0_classes mX0_facets mX0_tables mX0_rules mX0_rewrite mX0_disk mX0_tape mX0_size mX0_begins mX0_ends mX0_words mX0_args mX0_answers mX0_threw mX0_done mX0_wrong mX0_entries mX0_entryCount mX44_room mX44_number mX44_word mX44_kinds mJ1_modCount mJ2_elementData mJ2_size) a (.inr (ci 0, [va_rf (mX0_roomNames a), va_rf (mX0_calls a), va_rf (mX0_names a), va_rf (mX0_versions a), va_rf (mX0_values a), va_rf (mX0_proofs a), va_rf (mX0_rights a), va_rf (mX0_classes a), va_rf (mX0_facets a), va_rf (mX0_tables a), va_rf (mX0_rules a), va_rf (mX0_rewrite a), va_rf (mX0_disk a), va_rf (mX0_tape a), .int (mX0_size a), va_rf (mX0_begins a), va_rf (mX0_ends a), .int v, va_rf (mX0_args a), va_rf (mX0_answers a), va_rf (mX0_threw a), .int (mX0_done a), .int (mX0_wrong a), va_rf (mX0_entries a), .int (mX0_entryCount a)])) = (cSH ci d kd an ai al ar mX0_roomNames mX0_calls mX0_names mX0_versions mX0_values mX0_proofs mX0_rights mX0_classes mX0_facets mX0_tables mX0_rules mX0_rewrite mX0_disk mX0_tape mX0_size mX0_begins mX0_ends (va_up mX0_words a v) mX0_args mX0_answers mX0_threw mX0_done mX0_wrong mX0_entries mX0_entryCount mX44_room mX44_number mX44_word mX44_kinds mJ1_modCount mJ2_elementData mJ2_size) := by
  funext b
  by_cases h : b = a
  · subst h
    rw [va_up_self]
    unfold cSH
    rw [hk]
    simp only [va_up_self]
  · rw [va_up_ne _ _ h]
    unfold cSH
    simp only [va_up_ne _ _ h]
theorem cSH_1_18 {ci : Nat → Nat} {d : Nat → ClassId} {kd : Nat → Nat} {an : Nat → Nat} {ai : Nat → Nat → Int32} {al : Nat → Nat → Int64} {ar : Nat → Nat → Option Nat} {mX0_roomNames : Nat → Option Nat} {mX0_calls : Nat → Option Nat} {mX0_names : Nat → Option Nat} {mX0_versions : Nat → Option Nat} {mX0_values : Nat → Option Nat} {mX0_proofs : Nat → Option Nat} {mX0_rights : Nat → Option Nat} {mX0_classes : Nat → Option Nat} {mX0_facets : Nat → Option Nat} {mX0_tables : Nat → Option Nat} {mX0_rules : Nat → Option Nat} {mX0_rewrite : Nat → Option Nat} {mX0_disk : Nat → Option Nat} {mX0_tape : Nat → Option Nat} {mX0_size : Nat → Int32} {mX0_begins : Nat → Option Nat} {mX0_ends : Nat → Option Nat} {mX0_words : Nat → Int32} {mX0_args : Nat → Option Nat} {mX0_answers : Nat → Option Nat} {mX0_threw : Nat → Option Nat} {mX0_done : Nat → Int32} {mX0_wrong : Nat → Int32} {mX0_entries : Nat → Option Nat} {mX0_entryCount : Nat → Int32} {mX44_room : Nat → Int32} {mX44_number : Nat → Int32} {mX44_word : Nat → Option Nat} {mX44_kinds : Nat → Option Nat} {mJ1_modCount : Nat → Int32} {mJ2_elementData : Nat → Option Nat} {mJ2_size : Nat → Int32} {a : Nat} {v : Option Nat} (hk : kd a = 1) : va_up (cSH ci d kd an ai al ar mX0_roomNames mX0_calls mX0_names mX0_versions mX0_values mX0_proofs mX0_rights mX0_classes mX0_facets mX0_tables mX0_rules mX0_rewrite mX0_disk mX0_tape mX0_size mX0_begins mX0_ends mX0_words mX0_args mX0_answers mX0_threw mX0_done mX0_wrong mX0_entries mX0_entryCount mX44_room mX44_number mX44_word mX44_kinds mJ1_modCount mJ2_elementData mJ2_size) a (.inr (ci 0, [va_rf (mX0_roomNames a), va_rf (mX0_calls a), va_rf (mX0_names a), va_rf (mX0_versions a), va_rf (mX0_values a), va_rf (mX0_proofs a), va_rf (mX0_rights a), va_rf (mX0_classes a), va_rf (mX0_facets a), va_rf (mX0_tables a), va_rf (mX0_rules a), va_rf (mX0_rewrite a), va_rf (mX0_disk a), va_rf (mX0_tape a), .int (mX0_size a), va_rf (mX0_begins a), va_rf (mX0_ends a), .int (mX0_words a), va_rf v, va_rf (mX0_answers a), va_rf (mX0_threw a), .int (mX0_done a), .int (mX0_wrong a), va_rf (mX0_entries a), .int (mX0_entryCount a)])) = (cSH ci d kd an ai al ar mX0_roomNames mX0_calls mX0_names mX0_versions mX0_values mX0_proofs mX0_rights mX0_classes mX0_facets mX0_tables mX0_rules mX0_rewrite mX0_disk mX0_tape mX0_size mX0_begins mX0_ends mX0_words (va_up mX0_args a v) mX0_answers mX0_threw mX0_done mX0_wrong mX0_entries mX0_entryCount mX44_room mX44_number mX44_word mX44_kinds mJ1_modCount mJ2_elementData mJ2_size) := by
  funext b
  by_cases h : b = a
  · subst h
    rw [va_up_self]
    unfold cSH
    rw [hk]
    simp only [va_up_self]
  · rw [va_up_ne _ _ h]
    unfold cSH
    simp only [va_up_ne _ _ h]
theorem cSH_1_19 {ci : Nat → Nat} {d : Nat → ClassId} {kd : Nat → Nat} {an : Nat → Nat} {ai : Nat → Nat → Int32} {al : Nat → Nat → Int64} {ar : Nat → Nat → Option Nat} {mX0_roomNames : Nat → Option Nat} {mX0_calls : Nat → Option Nat} {mX0_names : Nat → Option Nat} {mX0_versions : Nat → Option Nat} {mX0_values : Nat → Option Nat} {mX0_proofs : Nat → Option Nat} {mX0_rights : Nat → Option Nat} {mX0_classes : Nat → Option Nat} {mX0_facets : Nat → Option Nat} {mX0_tables : Nat → Option Nat} {mX0_rules : Nat → Option Nat} {mX0_rewrite : Nat → Option Nat} {mX0_disk : Nat → Option Nat} {mX0_tape : Nat → Option Nat} {mX0_size : Nat → Int32} {mX0_begins : Nat → Option Nat} {mX0_ends : Nat → Option Nat} {mX0_words : Nat → Int32} {mX0_args : Nat → Option Nat} {mX0_answers : Nat → Option Nat} {mX0_threw : Nat → Option Nat} {mX0_done : Nat → Int32} {mX0_wrong : Nat → Int32} {mX0_entries : Nat → Option Nat} {mX0_entryCount : Nat → Int32} {mX44_room : Nat → Int32} {mX44_number : Nat → Int32} {mX44_word : Nat → Option Nat} {mX44_kinds : Nat → Option Nat} {mJ1_modCount : Nat → Int32} {mJ2_elementData : Nat → Option Nat} {mJ2_size : Nat → Int32} {a : Nat} {v : Option Nat} (hk : kd a = 1) : va_up (cSH ci d kd an ai al ar mX0_roomNames mX0_calls mX0_names mX0_versions mX0_values mX0_proofs mX0_rights mX0_classes mX0_facets mX0_tables mX0_rules mX0_rewrite mX0_disk mX0_tape mX0_size mX0_begins mX0_ends mX0_words mX0_args mX0_answers mX0_threw mX0_done mX0_wrong mX0_entries mX0_entryCount mX44_room mX44_number mX44_word mX44_kinds mJ1_modCount mJ2_elementData mJ2_size) a (.inr (ci 0, [va_rf (mX0_roomNames a), va_rf (mX0_calls a), va_rf (mX0_names a), va_rf (mX0_versions a), va_rf (mX0_values a), va_rf (mX0_proofs a), va_rf (mX0_rights a), va_rf (mX0_classes a), va_rf (mX0_facets a), va_rf (mX0_tables a), va_rf (mX0_rules a), va_rf (mX0_rewrite a), va_rf (mX0_disk a), va_rf (mX0_tape a), .int (mX0_size a), va_rf (mX0_begins a), va_rf (mX0_ends a), .int (mX0_words a), va_rf (mX0_args a), va_rf v, va_rf (mX0_threw a), .int (mX0_done a), .int (mX0_wrong a), va_rf (mX0_entries a), .int (mX0_entryCount a)])) = (cSH ci d kd an ai al ar mX0_roomNames mX0_calls mX0_names mX0_versions mX0_values mX0_proofs mX0_rights mX0_classes mX0_facets mX0_tables mX0_rules mX0_rewrite mX0_disk mX0_tape mX0_size mX0_begins mX0_ends mX0_words mX0_args (va_up mX0_answers a v) mX0_threw mX0_done mX0_wrong mX0_entries mX0_entryCount mX44_room mX44_number mX44_word mX44_kinds mJ1_modCount mJ2_elementData mJ2_size) := by
  funext b
  by_cases h : b = a
  · subst h
    rw [va_up_self]
    unfold cSH
    rw [hk]
    simp only [va_up_self]
  · rw [va_up_ne _ _ h]
    unfold cSH
    simp only [va_up_ne _ _ h]
theorem cSH_1_20 {ci : Nat → Nat} {d : Nat → ClassId} {kd : Nat → Nat} {an : Nat → Nat} {ai : Nat → Nat → Int32} {al : Nat → Nat → Int64} {ar : Nat → Nat → Option Nat} {mX0_roomNames : Nat → Option Nat} {mX0_calls : Nat → Option Nat} {mX0_names : Nat → Option Nat} {mX0_versions : Nat → Option Nat} {mX0_values : Nat → Option Nat} {mX0_proofs : Nat → Option Nat} {mX0_rights : Nat → Option Nat} {mX0_classes : Nat → Option Nat} {mX0_facets : Nat → Option Nat} {mX0_tables : Nat → Option Nat} {mX0_rules : Nat → Option Nat} {mX0_rewrite : Nat → Option Nat} {mX0_disk : Nat → Option Nat} {mX0_tape : Nat → Option Nat} {mX0_size : Nat → Int32} {mX0_begins : Nat → Option Nat} {mX0_ends : Nat → Option Nat} {mX0_words : Nat → Int32} {mX0_args : Nat → Option Nat} {mX0_answers : Nat → Option Nat} {mX0_threw : Nat → Option Nat} {mX0_done : Nat → Int32} {mX0_wrong : Nat → Int32} {mX0_entries : Nat → Option Nat} {mX0_entryCount : Nat → Int32} {mX44_room : Nat → Int32} {mX44_number : Nat → Int32} {mX44_word : Nat → Option Nat} {mX44_kinds : Nat → Option Nat} {mJ1_modCount : Nat → Int32} {mJ2_elementData : Nat → Option Nat} {mJ2_size : Nat → Int32} {a : Nat} {v : Option Nat} (hk : kd a = 1) : va_up (cSH ci d kd an ai al ar mX0_roomNames mX0_calls mX0_names mX0_versions mX0_values mX0_proofs mX0_rights mX0_classes mX0_facets mX0_tables mX0_rules mX0_rewrite mX0_disk mX0_tape mX0_size mX0_begins mX0_ends mX0_words mX0_args mX0_answers mX0_threw mX0_done mX0_wrong mX0_entries mX0_entryCount mX44_room mX44_number mX44_word mX44_kinds mJ1_modCount mJ2_elementData mJ2_size) a (.inr (ci 0, [va_rf (mX0_roomNames a), va_rf (mX0_calls a), va_rf (mX0_names a), va_rf (mX0_versions a), va_rf (mX0_values a), va_rf (mX0_proofs a), va_rf (mX0_rights a), va_rf (mX0_classes a), va_rf (mX0_facets a), va_rf (mX0_tables a), va_rf (mX0_rules a), va_rf (mX0_rewrite a), va_rf (mX0_disk a), va_rf (mX0_tape a), .int (mX0_size a), va_rf (mX0_begins a), va_rf (mX0_ends a), .int (mX0_words a), va_rf (mX0_args a), va_rf (mX0_answers a), va_rf v, .int (mX0_done a), .int (mX0_wrong a), va_rf (mX0_entries a), .int (mX0_entryCount a)])) = (cSH ci d kd an ai al ar mX0_roomNames mX0_calls mX0_names mX0_versions mX0_values mX0_proofs mX0_rights mX0_classes mX0_facets mX0_tables mX0_rules mX0_rewrite mX0_disk mX0_tape mX0_size mX0_begins mX0_ends mX0_words mX0_args mX0_answers (va_up mX0_threw a v) mX0_done mX0_wrong mX0_entries mX0_entryCount mX44_room mX44_number mX44_word mX44_kinds mJ1_modCount mJ2_elementData mJ2_size) := by
  funext b
  by_cases h : b = a
  · subst h
    rw [va_up_self]
    unfold cSH
    rw [hk]
    simp only [va_up_self]
  · rw [va_up_ne _ _ h]
    unfold cSH
    simp only [va_up_ne _ _ h]
theorem cSH_1_21 {ci : Nat → Nat} {d : Nat → ClassId} {kd : Nat → Nat} {an : Nat → Nat} {ai : Nat → Nat → Int32} {al : Nat → Nat → Int64} {ar : Nat → Nat → Option Nat} {mX0_roomNames : Nat → Option Nat} {mX0_calls : Nat → Option Nat} {mX0_names : Nat → Option Nat} {mX0_versions : Nat → Option Nat} {mX0_values : Nat → Option Nat} {mX0_proofs : Nat → Option Nat} {mX0_rights : Nat → Option Nat} {mX0_classes : Nat → Option Nat} {mX0_facets : Nat → Option Nat} {mX0_tables : Nat → Option Nat} {mX0_rules : Nat → Option Nat} {mX0_rewrite : Nat → Option Nat} {mX0_disk : Nat → Option Nat} {mX0_tape : Nat → Option Nat} {mX0_size : Nat → Int32} {mX0_begins : Nat → Option Nat} {mX0_ends : Nat → Option Nat} {mX0_words : Nat → Int32} {mX0_args : Nat → Option Nat} {mX0_answers : Nat → Option Nat} {mX0_threw : Nat → Option Nat} {mX0_done : Nat → Int32} {mX0_wrong : Nat → Int32} {mX0_entries : Nat → Option Nat} {mX0_entryCount : Nat → Int32} {mX44_room : Nat → Int32} {mX44_number : Nat → Int32} {mX44_word : Nat → Option Nat} {mX44_kinds : Nat → Option Nat} {mJ1_modCount : Nat → Int32} {mJ2_elementData : Nat → Option Nat} {mJ2_size : Nat → Int32} {a : Nat} {v : Int32} (hk : kd a = 1) : va_up (cSH ci d kd an ai al ar mX0_roomNames mX0_calls mX0_names mX0_versions mX0_values mX0_proofs mX0_rights mX0_classes mX0_facets mX0_tables mX0_rules mX0_rewrite mX0_disk mX0_tape mX0_size mX0_begins mX0_ends mX0_words mX0_args mX0_answers mX0_threw mX0_done mX0_wrong mX0_entries mX0_entryCount mX44_room mX44_number mX44_word mX44_kinds mJ1_modCount mJ2_elementData mJ2_size) a (.inr (ci 0, [va_rf (mX0_roomNames a), va_rf (mX0_calls a), va_rf (mX0_names a), va_rf (mX0_versions a), va_rf (mX0_values a), va_rf (mX0_proofs a), va_rf (mX0_rights a), va_rf (mX0_classes a), va_rf (mX0_facets a), va_rf (mX0_tables a), va_rf (mX0_rules a), va_rf (mX0_rewrite a), va_rf (mX0_disk a), va_rf (mX0_tape a), .int (mX0_size a), va_rf (mX0_begins a), va_rf (mX0_ends a), .int (mX0_words a), va_rf (mX0_args a), va_rf (mX0_answers a), va_rf (mX0_threw a), .int v, .int (mX0_wrong a), va_rf (mX0_entries a), .int (mX0_entryCount a)])) = (cSH ci d kd an ai al ar mX0_roomNames mX0_calls mX0_names mX0_versions mX0_values mX0_proofs mX0_rights mX0_classes mX0_facets mX0_tables mX0_rules mX0_rewrite mX0_disk mX0_tape mX0_size mX0_begins mX0_ends mX0_words mX0_args mX0_answers mX0_threw (va_up mX0_done a v) mX0_wrong mX0_entries mX0_entryCount mX44_room mX44_number mX44_word mX44_kinds mJ1_modCount mJ2_elementData mJ2_size) := by
  funext b
  by_cases h : b = a
  · subst h
    rw [va_up_self]
    unfold cSH
    rw [hk]
    simp only [va_up_self]
  · rw [va_up_ne _ _ h]
    unfold cSH
    simp only [va_up_ne _ _ h]
theorem cSH_1_22 {ci : Nat → Nat} {d : Nat → ClassId} {kd : Nat → Nat} {an : Nat → Nat} {ai : Nat → Nat → Int32} {al : Nat → Nat → Int64} {ar : Nat → Nat → Option Nat} {mX0_roomNames : Nat → Option Nat} {mX0_calls : Nat → Option Nat} {mX0_names : Nat → Option Nat} {mX0_versions : Nat → Option Nat} {mX0_values : Nat → Option Nat} {mX0_proofs : Nat → Option Nat} {mX0_rights : Nat → Option Nat} {mX0_classes : Nat → Option Nat} {mX0_facets : Nat → Option Nat} {mX0_tables : Nat → Option Nat} {mX0_rules : Nat → Option Nat} {mX0_rewrite : Nat → Option Nat} {mX0_disk : Nat → Option Nat} {mX0_tape : Nat → Option Nat} {mX0_size : Nat → Int32} {mX0_begins : Nat → Option Nat} {mX0_ends : Nat → Option Nat} {mX0_words : Nat → Int32} {mX0_args : Nat → Option Nat} {mX0_answers : Nat → Option Nat} {mX0_threw : Nat → Option Nat} {mX0_done : Nat → Int32} {mX0_wrong : Nat → Int32} {mX0_entries : Nat → Option Nat} {mX0_entryCount : Nat → Int32} {mX44_room : Nat → Int32} {mX44_number : Nat → Int32} {mX44_word : Nat → Option Nat} {mX44_kinds : Nat → Option Nat} {mJ1_modCount : Nat → Int32} {mJ2_elementData : Nat → Option Nat} {mJ2_size : Nat → Int32} {a : Nat} {v : Int32} (hk : kd a = 1) : va_up (cSH ci d kd an ai al ar mX0_roomNames mX0_calls mX0_names mX0_versions mX0_values mX0_proofs mX0_rights mX0_classes mX0_facets mX0_tables mX0_rules mX0_rewrite mX0_disk mX0_tape mX0_size mX0_begins mX0_ends mX0_words mX0_args mX0_answers mX0_threw mX0_done mX0_wrong mX0_entries mX0_entryCount mX44_room mX44_number mX44_word mX44_kinds mJ1_modCount mJ2_elementData mJ2_size) a (.inr (ci 0, [va_rf (mX0_roomNames a), va_rf (mX0_calls a), va_rf (mX0_names a), va_rf (mX0_versions a), va_rf (mX0_values a), va_rf (mX0_proofs a), va_rf (mX0_rights a), va_rf (mX0_classes a), va_rf (mX0_facets a), va_rf (mX0_tables a), va_rf (mX0_rules a), va_rf (mX0_rewrite a), va_rf (mX0_disk a), va_rf (mX0_tape a), .int (mX0_size a), va_rf (mX0_begins a), va_rf (mX0_ends a), .int (mX0_words a), va_rf (mX0_args a), va_rf (mX0_answers a), va_rf (mX0_threw a), .int (mX0_done a), .int v, va_rf (mX0_entries a), .int (mX0_entryCount a)])) = (cSH ci d kd an ai al ar mX0_roomNames mX0_calls mX0_names mX0_versions mX0_values mX0_proofs mX0_rights mX0_classes mX0_facets mX0_tables mX0_rules mX0_rewrite mX0_disk mX0_tape mX0_size mX0_begins mX0_ends mX0_words mX0_args mX0_answers mX0_threw mX0_done (va_up mX0_wrong a v) mX0_entries mX0_entryCount mX44_room mX44_number mX44_word mX44_kinds mJ1_modCount mJ2_elementData mJ2_size) := by
  funext b
  by_cases h : b = a
  · subst h
    rw [va_up_self]
    unfold cSH
    rw [hk]
    simp only [va_up_self]
  · rw [va_up_ne _ _ h]
    unfold cSH
    simp only [va_up_ne _ _ h]
theorem cSH_1_23 {ci : Nat → Nat} {d : Nat → ClassId} {kd : Nat → Nat} {an : Nat → Nat} {ai : Nat → Nat → Int32} {al : Nat → Nat → Int64} {ar : Nat → Nat → Option Nat} {mX0_roomNames : Nat → Option Nat} {mX0_calls : Nat → Option Nat} {mX0_names : Nat → Option Nat} {mX0_versions : Nat → Option Nat} {mX0_values : Nat → Option Nat} {mX0_proofs : Nat → Option Nat} {mX0_rights : Nat → Option Nat} {mX0_classes : Nat → Option Nat} {mX0_facets : Nat → Option Nat} {mX0_tables : Nat → Option Nat} {mX0_rules : Nat → Option Nat} {mX0_rewrite : Nat → Option Nat} {mX0_disk : Nat → Option Nat} {mX0_tape : Nat → Option Nat} {mX0_size : Nat → Int32} {mX0_begins : Nat → Option Nat} {mX0_ends : Nat → Option Nat} {mX0_words : Nat → Int32} {mX0_args : Nat → Option Nat} {mX0_answers : Nat → Option Nat} {mX0_threw : Nat → Option Nat} {mX0_done : Nat → Int32} {mX0_wrong : Nat → Int32} {mX0_entries : Nat → Option Nat} {mX0_entryCount : Nat → Int32} {mX44_room : Nat → Int32} {mX44_number : Nat → Int32} {mX44_word : Nat → Option Nat} {mX44_kinds : Nat → Option Nat} {mJ1_modCount : Nat → Int32} {mJ2_elementData : Nat → Option Nat} {mJ2_size : Nat → Int32} {a : Nat} {v : Option Nat} (hk : kd a = 1) : va_up (cSH ci d kd an ai al ar mX0_roomNames mX0_calls mX0_names mX0_versions mX0_values mX0_proofs mX0_rights mX0_classes mX0_facets mX0_tables mX0_rules mX0_rewrite mX0_disk mX0_tape mX0_size mX0_begins mX0_ends mX0_words mX0_args mX0_answers mX0_threw mX0_done mX0_wrong mX0_entries mX0_entryCount mX44_room mX44_number mX44_word mX44_kinds mJ1_modCount mJ2_elementData mJ2_size) a (.inr (ci 0, [va_rf (mX0_roomNames a), va_rf (mX0_calls a), va_rf (mX0_names a), va_rf (mX0_versions a), va_rf (mX0_values a), va_rf (mX0_proofs a), va_rf (mX0_rights a), va_rf (mX0_classes a), va_rf (mX0_facets a), va_rf (mX0_tables a), va_rf (mX0_rules a), va_rf (mX0_rewrite a), va_rf (mX0_disk a), va_rf (mX0_tape a), .int (mX0_size a), va_rf (mX0_begins a), va_rf (mX0_ends a), .int (mX0_words a), va_rf (mX0_args a), va_rf (mX0_answers a), va_rf (mX0_threw a), .int (mX0_done a), .int (mX0_wrong a), va_rf v, .int (mX0_entryCount a)])) = (cSH ci d kd an ai al ar mX0_roomNames mX0_calls mX0_names mX0_versions mX0_values mX0_proofs mX0_rights mX0_classes mX0_facets mX0_tables mX0_rules mX0_rewrite mX0_disk mX0_tape mX0_size mX0_begins mX0_ends mX0_words mX0_args mX0_answers mX0_threw mX0_done mX0_wrong (va_up mX0_entries a v) mX0_entryCount mX44_room mX44_number mX44_word mX44_kinds mJ1_modCount mJ2_elementData mJ2_size) := by
  funext b
  by_cases h : b = a
  · subst h
    rw [va_up_self]
    unfold cSH
    rw [hk]
    simp only [va_up_self]
  · rw [va_up_ne _ _ h]
    unfold cSH
    simp only [va_up_ne _ _ h]
theorem cSH_1_24 {ci : Nat → Nat} {d : Nat → ClassId} {kd : Nat → Nat} {an : Nat → Nat} {ai : Nat → Nat → Int32} {al : Nat → Nat → Int64} {ar : Nat → Nat → Option Nat} {mX0_roomNames : Nat → Option Nat} {mX0_calls : Nat → Option Nat} {mX0_names : Nat → Option Nat} {mX0_versions : Nat → Option Nat} {mX0_values : Nat → Option Nat} {mX0_proofs : Nat → Option Nat} {mX0_rights : Nat → Option Nat} {mX0_classes : Nat → Option Nat} {mX0_facets : Nat → Option Nat} {mX0_tables : Nat → Option Nat} {mX0_rules : Nat → Option Nat} {mX0_rewrite : Nat → Option Nat} {mX0_disk : Nat → Option Nat} {mX0_tape : Nat → Option Nat} {mX0_size : Nat → Int32} {mX0_begins : Nat → Option Nat} {mX0_ends : Nat → Option Nat} {mX0_words : Nat → Int32} {mX0_args : Nat → Option Nat} {mX0_answers : Nat → Option Nat} {mX0_threw : Nat → Option Nat} {mX0_done : Nat → Int32} {mX0_wrong : Nat → Int32} {mX0_entries : Nat → Option Nat} {mX0_entryCount : Nat → Int32} {mX44_room : Nat → Int32} {mX44_number : Nat → Int32} {mX44_word : Nat → Option Nat} {mX44_kinds : Nat → Option Nat} {mJ1_modCount : Nat → Int32} {mJ2_elementData : Nat → Option Nat} {mJ2_size : Nat → Int32} {a : Nat} {v : Int32} (hk : kd a = 1) : va_up (cSH ci d kd an ai al ar mX0_roomNames mX0_calls mX0_names mX0_versions mX0_values mX0_proofs mX0_rights mX0_classes mX0_facets mX0_tables mX0_rules mX0_rewrite mX0_disk mX0_tape mX0_size mX0_begins mX0_ends mX0_words mX0_args mX0_answers mX0_threw mX0_done mX0_wrong mX0_entries mX0_entryCount mX44_room mX44_number mX44_word mX44_kinds mJ1_modCount mJ2_elementData mJ2_size) a (.inr (ci 0, [va_rf (mX0_roomNames a), va_rf (mX0_calls a), va_rf (mX0_names a), va_rf (mX0_versions a), va_rf (mX0_values a), va_rf (mX0_proofs a), va_rf (mX0_rights a), va_rf (mX0_classes a), va_rf (mX0_facets a), va_rf (mX0_tables a), va_rf (mX0_rules a), va_rf (mX0_rewrite a), va_rf (mX0_disk a), va_rf (mX0_tape a), .int (mX0_size a), va_rf (mX0_begins a), va_rf (mX0_ends a), .int (mX0_words a), va_rf (mX0_args a), va_rf (mX0_answers a), va_rf (mX0_threw a), .int (mX0_done a), .int (mX0_wrong a), va_rf (mX0_entries a), .int v])) = (cSH ci d kd an ai al ar mX0_roomNames mX0_calls mX0_names mX0_versions mX0_values mX0_proofs mX0_rights mX0_classes mX0_facets mX0_tables mX0_rules mX0_rewrite mX0_disk mX0_tape mX0_size mX0_begins mX0_ends mX0_words mX0_args mX0_answers mX0_threw mX0_done mX0_wrong mX0_entries (va_up mX0_entryCount a v) mX44_room mX44_number mX44_word mX44_kinds mJ1_modCount mJ2_elementData mJ2_size) := by
  funext b
  by_cases h : b = a
  · subst h
    rw [va_up_self]
    unfold cSH
    rw [hk]
    simp only [va_up_self]
  · rw [va_up_ne _ _ h]
    unfold cSH
    simp only [va_up_ne _ _ h]
theorem cSH_1_n {ci : Nat → Nat} {d : Nat → ClassId} {kd : Nat → Nat} {an : Nat → Nat} {ai : Nat → Nat → Int32} {al : Nat → Nat → Int64} {ar : Nat → Nat → Option Nat} {mX0_roomNames : Nat → Option Nat} {mX0_calls : Nat → Option Nat} {mX0_names : Nat → Option Nat} {mX0_versions : Nat → Option Nat} {mX0_values : Nat → Option Nat} {mX0_proofs : Nat → Option Nat} {mX0_rights : Nat → Option Nat} {mX0_classes : Nat → Option Nat} {mX0_facets : Nat → Option Nat} {mX0_tables : Nat → Option Nat} {mX0_rules : Nat → Option Nat} {mX0_rewrite : Nat → Option Nat} {mX0_disk : Nat → Option Nat} {mX0_tape : Nat → Option Nat} {mX0_size : Nat → Int32} {mX0_begins : Nat → Option Nat} {mX0_ends : Nat → Option Nat} {mX0_words : Nat → Int32} {mX0_args : Nat → Option Nat} {mX0_answers : Nat → Option Nat} {mX0_threw : Nat → Option Nat} {mX0_done : Nat → Int32} {mX0_wrong : Nat → Int32} {mX0_entries : Nat → Option Nat} {mX0_entryCount : Nat → Int32} {mX44_room : Nat → Int32} {mX44_number : Nat → Int32} {mX44_word : Nat → Option Nat} {mX44_kinds : Nat → Option Nat} {mJ1_modCount : Nat → Int32} {mJ2_elementData : Nat → Option Nat} {mJ2_size : Nat → Int32} (q : Nat) : va_up (cSH ci d kd an ai al ar mX0_roomNames mX0_calls mX0_names mX0_versions mX0_values mX0_proofs mX0_rights mX0_classes mX0_facets mX0_tables mX0_rules mX0_rewrite mX0_disk mX0_tape mX0_size mX0_begins mX0_ends mX0_words mX0_args mX0_answers mX0_threw mX0_done mX0_wrong mX0_entries mX0_entryCount mX44_room mX44_number mX44_word mX44_kinds mJ1_modCount mJ2_elementData mJ2_size) q (.inr (ci 0, [va_rf none, va_rf none, va_rf none, va_rf none, va_rf none, va_rf none, va_rf none, va_rf none, va_rf none, va_rf none, va_rf none, va_rf none, va_rf none, va_rf none, .int 0, va_rf none, va_rf none, .int 0, va_rf none, va_rf none, va_rf none, .int 0, .int 0, va_rf none, .int 0])) = (cSH ci d (va_up kd q 1) an ai al ar (va_up mX0_roomNames q none) (va_up mX0_calls q none) (va_up mX0_names q none) (va_up mX0_versions q none) (va_up mX0_values q none) (va_up mX0_proofs q none) (va_up mX0_rights q none) (va_up mX0_classes q none) (va_up mX0_facets q none) (va_up mX0_tables q none) (va_up mX0_rules q none) (va_up mX0_rewrite q none) (va_up mX0_disk q none) (va_up mX0_tape q none) (va_up mX0_size q 0) (va_up mX0_begins q none) (va_up mX0_ends q none) (va_up mX0_words q 0) (va_up mX0_args q none) (va_up mX0_answers q none) (va_up mX0_threw q none) (va_up mX0_done q 0) (va_up mX0_wrong q 0) (va_up mX0_entries q none) (va_up mX0_entryCount q 0) mX44_room mX44_number mX44_word mX44_kinds mJ1_modCount mJ2_elementData mJ2_size) := by
  funext b
  by_cases h : b = q
  · subst h
    rw [va_up_self]
    unfold cSH
    simp only [va_up_self]
  · rw [va_up_ne _ _ h]
    unfold cSH
    simp only [va_up_ne _ _ h]
theorem cSH_2 {ci : Nat → Nat} {d : Nat → ClassId} {kd : Nat → Nat} {an : Nat → Nat} {ai : Nat → Nat → Int32} {al : Nat → Nat → Int64} {ar : Nat → Nat → Option Nat} {mX0_roomNames : Nat → Option Nat} {mX0_calls : Nat → Option Nat} {mX0_names : Nat → Option Nat} {mX0_versions : Nat → Option Nat} {mX0_values : Nat → Option Nat} {mX0_proofs : Nat → Option Nat} {mX0_rights : Nat → Option Nat} {mX0_classes : Nat → Option Nat} {mX0_facets : Nat → Option Nat} {mX0_tables : Nat → Option Nat} {mX0_rules : Nat → Option Nat} {mX0_rewrite : Nat → Option Nat} {mX0_disk : Nat → Option Nat} {mX0_tape : Nat → Option Nat} {mX0_size : Nat → Int32} {mX0_begins : Nat → Option Nat} {mX0_ends : Nat → Option Nat} {mX0_words : Nat → Int32} {mX0_args : Nat → Option Nat} {mX0_answers : Nat → Option Nat} {mX0_threw : Nat → Option Nat} {mX0_done : Nat → Int32} {mX0_wrong : Nat → Int32} {mX0_entries : Nat → Option Nat} {mX0_entryCount : Nat → Int32} {mX44_room : Nat → Int32} {mX44_number : Nat → Int32} {mX44_word : Nat → Option Nat} {mX44_kinds : Nat → Option Nat} {mJ1_modCount : Nat → Int32} {mJ2_elementData : Nat → Option Nat} {mJ2_size : Nat → Int32} {a : Nat} (hk : kd a = 2) : (cSH ci d kd an ai al ar mX0_roomNames mX0_calls mX0_names mX0_versions mX0_values mX0_proofs mX0_rights mX0_classes mX0_facets mX0_tables mX0_rules mX0_rewrite mX0_disk mX0_tape mX0_size mX0_begins mX0_ends mX0_words mX0_args mX0_answers mX0_threw mX0_done mX0_wrong mX0_entries mX0_entryCount mX44_room mX44_number mX44_word mX44_kinds mJ1_modCount mJ2_elementData mJ2_size) a = .inr (ci 1, [.int (mX44_room a), .int (mX44_number a), va_rf (mX44_word a), va_rf (mX44_kinds a)]) := by unfold cSH; simp only [hk]
theorem cSH_2_0 {ci : Nat → Nat} {d : Nat → ClassId} {kd : Nat → Nat} {an : Nat → Nat} {ai : Nat → Nat → Int32} {al : Nat → Nat → Int64} {ar : Nat → Nat → Option Nat} {mX0_roomNames : Nat → Option Nat} {mX0_calls : Nat → Option Nat} {mX0_names : Nat → Option Nat} {mX0_versions : Nat → Option Nat} {mX0_values : Nat → Option Nat} {mX0_proofs : Nat → Option Nat} {mX0_rights : Nat → Option Nat} {mX0_classes : Nat → Option Nat} {mX0_facets : Nat → Option Nat} {mX0_tables : Nat → Option Nat} {mX0_rules : Nat → Option Nat} {mX0_rewrite : Nat → Option Nat} {mX0_disk : Nat → Option Nat} {mX0_tape : Nat → Option Nat} {mX0_size : Nat → Int32} {mX0_begins : Nat → Option Nat} {mX0_ends : Nat → Option Nat} {mX0_words : Nat → Int32} {mX0_args : Nat → Option Nat} {mX0_answers : Nat → Option Nat} {mX0_threw : Nat → Option Nat} {mX0_done : Nat → Int32} {mX0_wrong : Nat → Int32} {mX0_entries : Nat → Option Nat} {mX0_entryCount : Nat → Int32} {mX44_room : Nat → Int32} {mX44_number : Nat → Int32} {mX44_word : Nat → Option Nat} {mX44_kinds : Nat → Option Nat} {mJ1_modCount : Nat → Int32} {mJ2_elementData : Nat → Option Nat} {mJ2_size : Nat → Int32} {a : Nat} {v : Int32} (hk : kd a = 2) : va_up (cSH ci d kd an ai al ar mX0_roomNames mX0_calls mX0_names mX0_versions mX0_values mX0_proofs mX0_rights mX0_classes mX0_facets mX0_tables mX0_rules mX0_rewrite mX0_disk mX0_tape mX0_size mX0_begins mX0_ends mX0_words mX0_args mX0_answers mX0_threw mX0_done mX0_wrong mX0_entries mX0_entryCount mX44_room mX44_number mX44_word mX44_kinds mJ1_modCount mJ2_elementData mJ2_size) a (.inr (ci 1, [.int v, .int (mX44_number a), va_rf (mX44_word a), va_rf (mX44_kinds a)])) = (cSH ci d kd an ai al ar mX0_roomNames mX0_calls mX0_names mX0_versions mX0_values mX0_proofs mX0_rights mX0_classes mX0_facets mX0_tables mX0_rules mX0_rewrite mX0_disk mX0_tape mX0_size mX0_begins mX0_ends mX0_words mX0_args mX0_answers mX0_threw mX0_done mX0_wrong mX0_entries mX0_entryCount (va_up mX44_room a v) mX44_number mX44_word mX44_kinds mJ1_modCount mJ2_elementData mJ2_size) := by
  funext b
  by_cases h : b = a
  · subst h
    rw [va_up_self]
    unfold cSH
    rw [hk]
    simp only [va_up_self]
  · rw [va_up_ne _ _ h]
    unfold cSH
    simp only [va_up_ne _ _ h]
theorem cSH_2_1 {ci : Nat → Nat} {d : Nat → ClassId} {kd : Nat → Nat} {an : Nat → Nat} {ai : Nat → Nat → Int32} {al : Nat → Nat → Int64} {ar : Nat → Nat → Option Nat} {mX0_roomNames : Nat → Option Nat} {mX0_calls : Nat → Option Nat} {mX0_names : Nat → Option Nat} {mX0_versions : Nat → Option Nat} {mX0_values : Nat → Option Nat} {mX0_proofs : Nat → Option Nat} {mX0_rights : Nat → Option Nat} {mX0_classes : Nat → Option Nat} {mX0_facets : Nat → Option Nat} {mX0_tables : Nat → Option Nat} {mX0_rules : Nat → Option Nat} {mX0_rewrite : Nat → Option Nat} {mX0_disk : Nat → Option Nat} {mX0_tape : Nat → Option Nat} {mX0_size : Nat → Int32} {mX0_begins : Nat → Option Nat} {mX0_ends : Nat → Option Nat} {mX0_words : Nat → Int32} {mX0_args : Nat → Option Nat} {mX0_answers : Nat → Option Nat} {mX0_threw : Nat → Option Nat} {mX0_done : Nat → Int32} {mX0_wrong : Nat → Int32} {mX0_entries : Nat → Option Nat} {mX0_entryCount : Nat → Int32} {mX44_room : Nat → Int32} {mX44_number : Nat → Int32} {mX44_word : Nat → Option Nat} {mX44_kinds : Nat → Option Nat} {mJ1_modCount : Nat → Int32} {mJ2_elementData : Nat → Option Nat} {mJ2_size : Nat → Int32} {a : Nat} {v : Int32} (hk : kd a = 2) : va_up (cSH ci d kd an ai al ar mX0_roomNames mX0_calls mX0_names mX0_versions mX0_values mX0_proofs mX0_rights mX0_classes mX0_facets mX0_tables mX0_rules mX0_rewrite mX0_disk mX0_tape mX0_size mX0_begins mX0_ends mX0_words mX0_args mX0_answers mX0_threw mX0_done mX0_wrong mX0_entries mX0_entryCount mX44_room mX44_number mX44_word mX44_kinds mJ1_modCount mJ2_elementData mJ2_size) a (.inr (ci 1, [.int (mX44_room a), .int v, va_rf (mX44_word a), va_rf (mX44_kinds a)])) = (cSH ci d kd an ai al ar mX0_roomNames mX0_calls mX0_names mX0_versions mX0_values mX0_proofs mX0_rights mX0_classes mX0_facets mX0_tables mX0_rules mX0_rewrite mX0_disk mX0_tape mX0_size mX0_begins mX0_ends mX0_words mX0_args mX0_answers mX0_threw mX0_done mX0_wrong mX0_entries mX0_entryCount mX44_room (va_up mX44_number a v) mX44_word mX44_kinds mJ1_modCount mJ2_elementData mJ2_size) := by
  funext b
  by_cases h : b = a
  · subst h
    rw [va_up_self]
    unfold cSH
    rw [hk]
    simp only [va_up_self]
  · rw [va_up_ne _ _ h]
    unfold cSH
    simp only [va_up_ne _ _ h]
theorem cSH_2_2 {ci : Nat → Nat} {d : Nat → ClassId} {kd : Nat → Nat} {an : Nat → Nat} {ai : Nat → Nat → Int32} {al : Nat → Nat → Int64} {ar : Nat → Nat → Option Nat} {mX0_roomNames : Nat → Option Nat} {mX0_calls : Nat → Option Nat} {mX0_names : Nat → Option Nat} {mX0_versions : Nat → Option Nat} {mX0_values : Nat → Option Nat} {mX0_proofs : Nat → Option Nat} {mX0_rights : Nat → Option Nat} {mX0_classes : Nat → Option Nat} {mX0_facets : Nat → Option Nat} {mX0_tables : Nat → Option Nat} {mX0_rules : Nat → Option Nat} {mX0_rewrite : Nat → Option Nat} {mX0_disk : Nat → Option Nat} {mX0_tape : Nat → Option Nat} {mX0_size : Nat → Int32} {mX0_begins : Nat → Option Nat} {mX0_ends : Nat → Option Nat} {mX0_words : Nat → Int32} {mX0_args : Nat → Option Nat} {mX0_answers : Nat → Option Nat} {mX0_threw : Nat → Option Nat} {mX0_done : Nat → Int32} {mX0_wrong : Nat → Int32} {mX0_entries : Nat → Option Nat} {mX0_entryCount : Nat → Int32} {mX44_room : Nat → Int32} {mX44_number : Nat → Int32} {mX44_word : Nat → Option Nat} {mX44_kinds : Nat → Option Nat} {mJ1_modCount : Nat → Int32} {mJ2_elementData : Nat → Option Nat} {mJ2_size : Nat → Int32} {a : Nat} {v : Option Nat} (hk : kd a = 2) : va_up (cSH ci d kd an ai al ar mX0_roomNames mX0_calls mX0_names mX0_versions mX0_values mX0_proofs mX0_rights mX0_classes mX0_facets mX0_tables mX0_rules mX0_rewrite mX0_disk mX0_tape mX0_size mX0_begins mX0_ends mX0_words mX0_args mX0_answers mX0_threw mX0_done mX0_wrong mX0_entries mX0_entryCount mX44_room mX44_number mX44_word mX44_kinds mJ1_modCount mJ2_elementData mJ2_size) a (.inr (ci 1, [.int (mX44_room a), .int (mX44_number a), va_rf v, va_rf (mX44_kinds a)])) = (cSH ci d kd an ai al ar mX0_roomNames mX0_calls mX0_names mX0_versions mX0_values mX0_proofs mX0_rights mX0_classes mX0_facets mX0_tables mX0_rules mX0_rewrite mX0_disk mX0_tape mX0_size mX0_begins mX0_ends mX0_words mX0_args mX0_answers mX0_threw mX0_done mX0_wrong mX0_entries mX0_entryCount mX44_room mX44_number (va_up mX44_word a v) mX44_kinds mJ1_modCount mJ2_elementData mJ2_size) := by
  funext b
  by_cases h : b = a
  · subst h
    rw [va_up_self]
    unfold cSH
    rw [hk]
    simp only [va_up_self]
  · rw [va_up_ne _ _ h]
    unfold cSH
    simp only [va_up_ne _ _ h]
theorem cSH_2_3 {ci : Nat → Nat} {d : Nat → ClassId} {kd : Nat → Nat} {an : Nat → Nat} {ai : Nat → Nat → Int32} {al : Nat → Nat → Int64} {ar : Nat → Nat → Option Nat} {mX0_roomNames : Nat → Option Nat} {mX0_calls : Nat → Option Nat} {mX0_names : Nat → Option Nat} {mX0_versions : Nat → Option Nat} {mX0_values : Nat → Option Nat} {mX0_proofs : Nat → Option Nat} {mX0_rights : Nat → Option Nat} {mX0_classes : Nat → Option Nat} {mX0_facets : Nat → Option Nat} {mX0_tables : Nat → Option Nat} {mX0_rules : Nat → Option Nat} {mX0_rewrite : Nat → Option Nat} {mX0_disk : Nat → Option Nat} {mX0_tape : Nat → Option Nat} {mX0_size : Nat → Int32} {mX0_begins : Nat → Option Nat} {mX0_ends : Nat → Option Nat} {mX0_words : Nat → Int32} {mX0_args : Nat → Option Nat} {mX0_answers : Nat → Option Nat} {mX0_threw : Nat → Option Nat} {mX0_done : Nat → Int32} {mX0_wrong : Nat → Int32} {mX0_entries : Nat → Option Nat} {mX0_entryCount : Nat → Int32} {mX44_room : Nat → Int32} {mX44_number : Nat → Int32} {mX44_word : Nat → Option Nat} {mX44_kinds : Nat → Option Nat} {mJ1_modCount : Nat → Int32} {mJ2_elementData : Nat → Option Nat} {mJ2_size : Nat → Int32} {a : Nat} {v : Option Nat} (hk : kd a = 2) : va_up (cSH ci d kd an ai al ar mX0_roomNames mX0_calls mX0_names mX0_versions mX0_values mX0_proofs mX0_rights mX0_classes mX0_facets mX0_tables mX0_rules mX0_rewrite mX0_disk mX0_tape mX0_size mX0_begins mX0_ends mX0_words mX0_args mX0_answers mX0_threw mX0_done mX0_wrong mX0_entries mX0_entryCount mX44_room mX44_number mX44_word mX44_kinds mJ1_modCount mJ2_elementData mJ2_size) a (.inr (ci 1, [.int (mX44_room a), .int (mX44_number a), va_rf (mX44_word a), va_rf v])) = (cSH ci d kd an ai al ar mX0_roomNames mX0_calls mX0_names mX0_versions mX0_values mX0_proofs mX0_rights mX0_classes mX0_facets mX0_tables mX0_rules mX0_rewrite mX0_disk mX0_tape mX0_size mX0_begins mX0_ends mX0_words mX0_args mX0_answers mX0_threw mX0_done mX0_wrong mX0_entries mX0_entryCount mX44_room mX44_number mX44_word (va_up mX44_kinds a v) mJ1_modCount mJ2_elementData mJ2_size) := by
  funext b
  by_cases h : b = a
  · subst h
    rw [va_up_self]
    unfold cSH
    rw [hk]
    simp only [va_up_self]
  · rw [va_up_ne _ _ h]
    unfold cSH
    simp only [va_up_ne _ _ h]
theorem cSH_2_n {ci : Nat → Nat} {d : Nat → ClassId} {kd : Nat → Nat} {an : Nat → Nat} {ai : Nat → Nat → Int32} {al : Nat → Nat → Int64} {ar : Nat → Nat → Option Nat} {mX0_roomNames : Nat → Option Nat} {mX0_calls : Nat → Option Nat} {mX0_names : Nat → Option Nat} {mX0_versions : Nat → Option Nat} {mX0_values : Nat → Option Nat} {mX0_proofs : Nat → Option Nat} {mX0_rights : Nat → Option Nat} {mX0_classes : Nat → Option Nat} {mX0_facets : Nat → Option Nat} {mX0_tables : Nat → Option Nat} {mX0_rules : Nat → Option Nat} {mX0_rewrite : Nat → Option Nat} {mX0_disk : Nat → Option Nat} {mX0_tape : Nat → Option Nat} {mX0_size : Nat → Int32} {mX0_begins : Nat → Option Nat} {mX0_ends : Nat → Option Nat} {mX0_words : Nat → Int32} {mX0_args : Nat → Option Nat} {mX0_answers : Nat → Option Nat} {mX0_threw : Nat → Option Nat} {mX0_done : Nat → Int32} {mX0_wrong : Nat → Int32} {mX0_entries : Nat → Option Nat} {mX0_entryCount : Nat → Int32} {mX44_room : Nat → Int32} {mX44_number : Nat → Int32} {mX44_word : Nat → Option Nat} {mX44_kinds : Nat → Option Nat} {mJ1_modCount : Nat → Int32} {mJ2_elementData : Nat → Option Nat} {mJ2_size : Nat → Int32} (q : Nat) : va_up (cSH ci d kd an ai al ar mX0_roomNames mX0_calls mX0_names mX0_versions mX0_values mX0_proofs mX0_rights mX0_classes mX0_facets mX0_tables mX0_rules mX0_rewrite mX0_disk mX0_tape mX0_size mX0_begins mX0_ends mX0_words mX0_args mX0_answers mX0_threw mX0_done mX0_wrong mX0_entries mX0_entryCount mX44_room mX44_number mX44_word mX44_kinds mJ1_modCount mJ2_elementData mJ2_size) q (.inr (ci 1, [.int 0, .int 0, va_rf none, va_rf none])) = (cSH ci d (va_up kd q 2) an ai al ar mX0_roomNames mX0_calls mX0_names mX0_versions mX0_values mX0_proofs mX0_rights mX0_classes mX0_facets mX0_tables mX0_rules mX0_rewrite mX0_disk mX0_tape mX0_size mX0_begins mX0_ends mX0_words mX0_args mX0_answers mX0_threw mX0_done mX0_wrong mX0_entries mX0_entryCount (va_up mX44_room q 0) (va_up mX44_number q 0) (va_up mX44_word q none) (va_up mX44_kinds q none) mJ1_modCount mJ2_elementData mJ2_size) := by
  funext b
  by_cases h : b = q
  · subst h
    rw [va_up_self]
    unfold cSH
    simp only [va_up_self]
  · rw [va_up_ne _ _ h]
    unfold cSH
    simp only [va_up_ne _ _ h]
theorem cSH_3 {ci : Nat → Nat} {d : Nat → ClassId} {kd : Nat → Nat} {an : Nat → Nat} {ai : Nat → Nat → Int32} {al : Nat → Nat → Int64} {ar : Nat → Nat → Option Nat} {mX0_roomNames : Nat → Option Nat} {mX0_calls : Nat → Option Nat} {mX0_names : Nat → Option Nat} {mX0_versions : Nat → Option Nat} {mX0_values : Nat → Option Nat} {mX0_proofs : Nat → Option Nat} {mX0_rights : Nat → Option Nat} {mX0_classes : Nat → Option Nat} {mX0_facets : Nat → Option Nat} {mX0_tables : Nat → Option Nat} {mX0_rules : Nat → Option Nat} {mX0_rewrite : Nat → Option Nat} {mX0_disk : Nat → Option Nat} {mX0_tape : Nat → Option Nat} {mX0_size : Nat → Int32} {mX0_begins : Nat → Option Nat} {mX0_ends : Nat → Option Nat} {mX0_words : Nat → Int32} {mX0_args : Nat → Option Nat} {mX0_answers : Nat → Option Nat} {mX0_threw : Nat → Option Nat} {mX0_done : Nat → Int32} {mX0_wrong : Nat → Int32} {mX0_entries : Nat → Option Nat} {mX0_entryCount : Nat → Int32} {mX44_room : Nat → Int32} {mX44_number : Nat → Int32} {mX44_word : Nat → Option Nat} {mX44_kinds : Nat → Option Nat} {mJ1_modCount : Nat → Int32} {mJ2_elementData : Nat → Option Nat} {mJ2_size : Nat → Int32} {a : Nat} (hk : kd a = 3) : (cSH ci d kd an ai al ar mX0_roomNames mX0_calls mX0_names mX0_versions mX0_values mX0_proofs mX0_rights mX0_classes mX0_facets mX0_tables mX0_rules mX0_rewrite mX0_disk mX0_tape mX0_size mX0_begins mX0_ends mX0_words mX0_args mX0_answers mX0_threw mX0_done mX0_wrong mX0_entries mX0_entryCount mX44_room mX44_number mX44_word mX44_kinds mJ1_modCount mJ2_elementData mJ2_size) a = .inr (ci 2, [.int (mJ1_modCount a), va_rf (mJ2_elementData a), .int (mJ2_size a)]) := by unfold cSH; simp only [hk]
theorem cSH_3_0 {ci : Nat → Nat} {d : Nat → ClassId} {kd : Nat → Nat} {an : Nat → Nat} {ai : Nat → Nat → Int32} {al : Nat → Nat → Int64} {ar : Nat → Nat → Option Nat} {mX0_roomNames : Nat → Option Nat} {mX0_calls : Nat → Option Nat} {mX0_names : Nat → Option Nat} {mX0_versions : Nat → Option Nat} {mX0_values : Nat → Option Nat} {mX0_proofs : Nat → Option Nat} {mX0_rights : Nat → Option Nat} {mX0_classes : Nat → Option Nat} {mX0_facets : Nat → Option Nat} {mX0_tables : Nat → Option Nat} {mX0_rules : Nat → Option Nat} {mX0_rewrite : Nat → Option Nat} {mX0_disk : Nat → Option Nat} {mX0_tape : Nat → Option Nat} {mX0_size : Nat → Int32} {mX0_begins : Nat → Option Nat} {mX0_ends : Nat → Option Nat} {mX0_words : Nat → Int32} {mX0_args : Nat → Option Nat} {mX0_answers : Nat → Option Nat} {mX0_threw : Nat → Option Nat} {mX0_done : Nat → Int32} {mX0_wrong : Nat → Int32} {mX0_entries : Nat → Option Nat} {mX0_entryCount : Nat → Int32} {mX44_room : Nat → Int32} {mX44_number : Nat → Int32} {mX44_word : Nat → Option Nat} {mX44_kinds : Nat → Option Nat} {mJ1_modCount : Nat → Int32} {mJ2_elementData : Nat → Option Nat} {mJ2_size : Nat → Int32} {a : Nat} {v : Int32} (hk : kd a = 3) : va_up (cSH ci d kd an ai al ar mX0_roomNames mX0_calls mX0_names mX0_versions mX0_values mX0_proofs mX0_rights mX0_classes mX0_facets mX0_tables mX0_rules mX0_rewrite mX0_disk mX0_tape mX0_size mX0_begins mX0_ends mX0_words mX0_args mX0_answers mX0_threw mX0_done mX0_wrong mX0_entries mX0_entryCount mX44_room mX44_number mX44_word mX44_kinds mJ1_modCount mJ2_elementData mJ2_size) a (.inr (ci 2, [.int v, va_rf (mJ2_elementData a), .int (mJ2_size a)])) = (cSH ci d kd an ai al ar mX0_roomNames mX0_calls mX0_names mX0_versions mX0_values mX0_proofs mX0_rights mX0_classes mX0_facets mX0_tables mX0_rules mX0_rewrite mX0_disk mX0_tape mX0_size mX0_begins mX0_ends mX0_words mX0_args mX0_answers mX0_threw mX0_done mX0_wrong mX0_entries mX0_entryCount mX44_room mX44_number mX44_word mX44_kinds (va_up mJ1_modCount a v) mJ2_elementData mJ2_size) := by
  funext b
  by_cases h : b = a
  · subst h
    rw [va_up_self]
    unfold cSH
    rw [hk]
    simp only [va_up_self]
  · rw [va_up_ne _ _ h]
    unfold cSH
    simp only [va_up_ne _ _ h]
theorem cSH_3_1 {ci : Nat → Nat} {d : Nat → ClassId} {kd : Nat → Nat} {an : Nat → Nat} {ai : Nat → Nat → Int32} {al : Nat → Nat → Int64} {ar : Nat → Nat → Option Nat} {mX0_roomNames : Nat → Option Nat} {mX0_calls : Nat → Option Nat} {mX0_names : Nat → Option Nat} {mX0_versions : Nat → Option Nat} {mX0_values : Nat → Option Nat} {mX0_proofs : Nat → Option Nat} {mX0_rights : Nat → Option Nat} {mX0_classes : Nat → Option Nat} {mX0_facets : Nat → Option Nat} {mX0_tables : Nat → Option Nat} {mX0_rules : Nat → Option Nat} {mX0_rewrite : Nat → Option Nat} {mX0_disk : Nat → Option Nat} {mX0_tape : Nat → Option Nat} {mX0_size : Nat → Int32} {mX0_begins : Nat → Option Nat} {mX0_ends : Nat → Option Nat} {mX0_words : Nat → Int32} {mX0_args : Nat → Option Nat} {mX0_answers : Nat → Option Nat} {mX0_threw : Nat → Option Nat} {mX0_done : Nat → Int32} {mX0_wrong : Nat → Int32} {mX0_entries : Nat → Option Nat} {mX0_entryCount : Nat → Int32} {mX44_room : Nat → Int32} {mX44_number : Nat → Int32} {mX44_word : Nat → Option Nat} {mX44_kinds : Nat → Option Nat} {mJ1_modCount : Nat → Int32} {mJ2_elementData : Nat → Option Nat} {mJ2_size : Nat → Int32} {a : Nat} {v : Option Nat} (hk : kd a = 3) : va_up (cSH ci d kd an ai al ar mX0_roomNames mX0_calls mX0_names mX0_versions mX0_values mX0_proofs mX0_rights mX0_classes mX0_facets mX0_tables mX0_rules mX0_rewrite mX0_disk mX0_tape mX0_size mX0_begins mX0_ends mX0_words mX0_args mX0_answers mX0_threw mX0_done mX0_wrong mX0_entries mX0_entryCount mX44_room mX44_number mX44_word mX44_kinds mJ1_modCount mJ2_elementData mJ2_size) a (.inr (ci 2, [.int (mJ1_modCount a), va_rf v, .int (mJ2_size a)])) = (cSH ci d kd an ai al ar mX0_roomNames mX0_calls mX0_names mX0_versions mX0_values mX0_proofs mX0_rights mX0_classes mX0_facets mX0_tables mX0_rules mX0_rewrite mX0_disk mX0_tape mX0_size mX0_begins mX0_ends mX0_words mX0_args mX0_answers mX0_threw mX0_done mX0_wrong mX0_entries mX0_entryCount mX44_room mX44_number mX44_word mX44_kinds mJ1_modCount (va_up mJ2_elementData a v) mJ2_size) := by
  funext b
  by_cases h : b = a
  · subst h
    rw [va_up_self]
    unfold cSH
    rw [hk]
    simp only [va_up_self]
  · rw [va_up_ne _ _ h]
    unfold cSH
    simp only [va_up_ne _ _ h]
theorem cSH_3_2 {ci : Nat → Nat} {d : Nat → ClassId} {kd : Nat → Nat} {an : Nat → Nat} {ai : Nat → Nat → Int32} {al : Nat → Nat → Int64} {ar : Nat → Nat → Option Nat} {mX0_roomNames : Nat → Option Nat} {mX0_calls : Nat → Option Nat} {mX0_names : Nat → Option Nat} {mX0_versions : Nat → Option Nat} {mX0_values : Nat → Option Nat} {mX0_proofs : Nat → Option Nat} {mX0_rights : Nat → Option Nat} {mX0_classes : Nat → Option Nat} {mX0_facets : Nat → Option Nat} {mX0_tables : Nat → Option Nat} {mX0_rules : Nat → Option Nat} {mX0_rewrite : Nat → Option Nat} {mX0_disk : Nat → Option Nat} {mX0_tape : Nat → Option Nat} {mX0_size : Nat → Int32} {mX0_begins : Nat → Option Nat} {mX0_ends : Nat → Option Nat} {mX0_words : Nat → Int32} {mX0_args : Nat → Option Nat} {mX0_answers : Nat → Option Nat} {mX0_threw : Nat → Option Nat} {mX0_done : Nat → Int32} {mX0_wrong : Nat → Int32} {mX0_entries : Nat → Option Nat} {mX0_entryCount : Nat → Int32} {mX44_room : Nat → Int32} {mX44_number : Nat → Int32} {mX44_word : Nat → Option Nat} {mX44_kinds : Nat → Option Nat} {mJ1_modCount : Nat → Int32} {mJ2_elementData : Nat → Option Nat} {mJ2_size : Nat → Int32} {a : Nat} {v : Int32} (hk : kd a = 3) : va_up (cSH ci d kd an ai al ar mX0_roomNames mX0_calls mX0_names mX0_versions mX0_values mX0_proofs mX0_rights mX0_classes mX0_facets mX0_tables mX0_rules mX0_rewrite mX0_disk mX0_tape mX0_size mX0_begins mX0_ends mX0_words mX0_args mX0_answers mX0_threw mX0_done mX0_wrong mX0_entries mX0_entryCount mX44_room mX44_number mX44_word mX44_kinds mJ1_modCount mJ2_elementData mJ2_size) a (.inr (ci 2, [.int (mJ1_modCount a), va_rf (mJ2_elementData a), .int v])) = (cSH ci d kd an ai al ar mX0_roomNames mX0_calls mX0_names mX0_versions mX0_values mX0_proofs mX0_rights mX0_classes mX0_facets mX0_tables mX0_rules mX0_rewrite mX0_disk mX0_tape mX0_size mX0_begins mX0_ends mX0_words mX0_args mX0_answers mX0_threw mX0_done mX0_wrong mX0_entries mX0_entryCount mX44_room mX44_number mX44_word mX44_kinds mJ1_modCount mJ2_elementData (va_up mJ2_size a v)) := by
  funext b
  by_cases h : b = a
  · subst h
    rw [va_up_self]
    unfold cSH
    rw [hk]
    simp only [va_up_self]
  · rw [va_up_ne _ _ h]
    unfold cSH
    simp only [va_up_ne _ _ h]
theorem cSH_3_n {ci : Nat → Nat} {d : Nat → ClassId} {kd : Nat → Nat} {an : Nat → Nat} {ai : Nat → Nat → Int32} {al : Nat → Nat → Int64} {ar : Nat → Nat → Option Nat} {mX0_roomNames : Nat → Option Nat} {mX0_calls : Nat → Option Nat} {mX0_names : Nat → Option Nat} {mX0_versions : Nat → Option Nat} {mX0_values : Nat → Option Nat} {mX0_proofs : Nat → Option Nat} {mX0_rights : Nat → Option Nat} {mX0_classes : Nat → Option Nat} {mX0_facets : Nat → Option Nat} {mX0_tables : Nat → Option Nat} {mX0_rules : Nat → Option Nat} {mX0_rewrite : Nat → Option Nat} {mX0_disk : Nat → Option Nat} {mX0_tape : Nat → Option Nat} {mX0_size : Nat → Int32} {mX0_begins : Nat → Option Nat} {mX0_ends : Nat → Option Nat} {mX0_words : Nat → Int32} {mX0_args : Nat → Option Nat} {mX0_answers : Nat → Option Nat} {mX0_threw : Nat → Option Nat} {mX0_done : Nat → Int32} {mX0_wrong : Nat → Int32} {mX0_entries : Nat → Option Nat} {mX0_entryCount : Nat → Int32} {mX44_room : Nat → Int32} {mX44_number : Nat → Int32} {mX44_word : Nat → Option Nat} {mX44_kinds : Nat → Option Nat} {mJ1_modCount : Nat → Int32} {mJ2_elementData : Nat → Option Nat} {mJ2_size : Nat → Int32} (q : Nat) : va_up (cSH ci d kd an ai al ar mX0_roomNames mX0_calls mX0_names mX0_versions mX0_values mX0_proofs mX0_rights mX0_classes mX0_facets mX0_tables mX0_rules mX0_rewrite mX0_disk mX0_tape mX0_size mX0_begins mX0_ends mX0_words mX0_args mX0_answers mX0_threw mX0_done mX0_wrong mX0_entries mX0_entryCount mX44_room mX44_number mX44_word mX44_kinds mJ1_modCount mJ2_elementData mJ2_size) q (.inr (ci 2, [.int 0, va_rf none, .int 0])) = (cSH ci d (va_up kd q 3) an ai al ar mX0_roomNames mX0_calls mX0_names mX0_versions mX0_values mX0_proofs mX0_rights mX0_classes mX0_facets mX0_tables mX0_rules mX0_rewrite mX0_disk mX0_tape mX0_size mX0_begins mX0_ends mX0_words mX0_args mX0_answers mX0_threw mX0_done mX0_wrong mX0_entries mX0_entryCount mX44_room mX44_number mX44_word mX44_kinds (va_up mJ1_modCount q 0) (va_up mJ2_elementData q none) (va_up mJ2_size q 0)) := by
  funext b
  by_cases h : b = q
  · subst h
    rw [va_up_self]
    unfold cSH
    simp only [va_up_self]
  · rw [va_up_ne _ _ h]
    unfold cSH
    simp only [va_up_ne _ _ h]
theorem cSH_4 {ci : Nat → Nat} {d : Nat → ClassId} {kd : Nat → Nat} {an : Nat → Nat} {ai : Nat → Nat → Int32} {al : Nat → Nat → Int64} {ar : Nat → Nat → Option Nat} {mX0_roomNames : Nat → Option Nat} {mX0_calls : Nat → Option Nat} {mX0_names : Nat → Option Nat} {mX0_versions : Nat → Option Nat} {mX0_values : Nat → Option Nat} {mX0_proofs : Nat → Option Nat} {mX0_rights : Nat → Option Nat} {mX0_classes : Nat → Option Nat} {mX0_facets : Nat → Option Nat} {mX0_tables : Nat → Option Nat} {mX0_rules : Nat → Option Nat} {mX0_rewrite : Nat → Option Nat} {mX0_disk : Nat → Option Nat} {mX0_tape : Nat → Option Nat} {mX0_size : Nat → Int32} {mX0_begins : Nat → Option Nat} {mX0_ends : Nat → Option Nat} {mX0_words : Nat → Int32} {mX0_args : Nat → Option Nat} {mX0_answers : Nat → Option Nat} {mX0_threw : Nat → Option Nat} {mX0_done : Nat → Int32} {mX0_wrong : Nat → Int32} {mX0_entries : Nat → Option Nat} {mX0_entryCount : Nat → Int32} {mX44_room : Nat → Int32} {mX44_number : Nat → Int32} {mX44_word : Nat → Option Nat} {mX44_kinds : Nat → Option Nat} {mJ1_modCount : Nat → Int32} {mJ2_elementData : Nat → Option Nat} {mJ2_size : Nat → Int32} {a : Nat} (hk : kd a = 4) : (cSH ci d kd an ai al ar mX0_roomNames mX0_calls mX0_names mX0_versions mX0_values mX0_proofs mX0_rights mX0_classes mX0_facets mX0_tables mX0_rules mX0_rewrite mX0_disk mX0_tape mX0_size mX0_begins mX0_ends mX0_words mX0_args mX0_answers mX0_threw mX0_done mX0_wrong mX0_entries mX0_entryCount mX44_room mX44_number mX44_word mX44_kinds mJ1_modCount mJ2_elementData mJ2_size) a = .inl (d 0, an a, .inl (ai a)) := by unfold cSH; simp only [hk]
theorem cSH_4_s {ci : Nat → Nat} {d : Nat → ClassId} {kd : Nat → Nat} {an : Nat → Nat} {ai : Nat → Nat → Int32} {al : Nat → Nat → Int64} {ar : Nat → Nat → Option Nat} {mX0_roomNames : Nat → Option Nat} {mX0_calls : Nat → Option Nat} {mX0_names : Nat → Option Nat} {mX0_versions : Nat → Option Nat} {mX0_values : Nat → Option Nat} {mX0_proofs : Nat → Option Nat} {mX0_rights : Nat → Option Nat} {mX0_classes : Nat → Option Nat} {mX0_facets : Nat → Option Nat} {mX0_tables : Nat → Option Nat} {mX0_rules : Nat → Option Nat} {mX0_rewrite : Nat → Option Nat} {mX0_disk : Nat → Option Nat} {mX0_tape : Nat → Option Nat} {mX0_size : Nat → Int32} {mX0_begins : Nat → Option Nat} {mX0_ends : Nat → Option Nat} {mX0_words : Nat → Int32} {mX0_args : Nat → Option Nat} {mX0_answers : Nat → Option Nat} {mX0_threw : Nat → Option Nat} {mX0_done : Nat → Int32} {mX0_wrong : Nat → Int32} {mX0_entries : Nat → Option Nat} {mX0_entryCount : Nat → Int32} {mX44_room : Nat → Int32} {mX44_number : Nat → Int32} {mX44_word : Nat → Option Nat} {mX44_kinds : Nat → Option Nat} {mJ1_modCount : Nat → Int32} {mJ2_elementData : Nat → Option Nat} {mJ2_size : Nat → Int32} {a : Nat} {g : Nat → Int32} (hk : kd a = 4) : va_up (cSH ci d kd an ai al ar mX0_roomNames mX0_calls mX0_names mX0_versions mX0_values mX0_proofs mX0_rights mX0_classes mX0_facets mX0_tables mX0_rules mX0_rewrite mX0_disk mX0_tape mX0_size mX0_begins mX0_ends mX0_words mX0_args mX0_answers mX0_threw mX0_done mX0_wrong mX0_entries mX0_entryCount mX44_room mX44_number mX44_word mX44_kinds mJ1_modCount mJ2_elementData mJ2_size) a (.inl (d 0, an a, .inl g)) = (cSH ci d kd an (va_up ai a g) al ar mX0_roomNames mX0_calls mX0_names mX0_versions mX0_values mX0_proofs mX0_rights mX0_classes mX0_facets mX0_tables mX0_rules mX0_rewrite mX0_disk mX0_tape mX0_size mX0_begins mX0_ends mX0_words mX0_args mX0_answers mX0_threw mX0_done mX0_wrong mX0_entries mX0_entryCount mX44_room mX44_number mX44_word mX44_kinds mJ1_modCount mJ2_elementData mJ2_size) := by
  funext b
  by_cases h : b = a
  · subst h
    rw [va_up_self]
    unfold cSH
    rw [hk]
    simp only [va_up_self]
  · rw [va_up_ne _ _ h]
    unfold cSH
    simp only [va_up_ne _ _ h]
theorem cSH_4_n {ci : Nat → Nat} {d : Nat → ClassId} {kd : Nat → Nat} {an : Nat → Nat} {ai : Nat → Nat → Int32} {al : Nat → Nat → Int64} {ar : Nat → Nat → Option Nat} {mX0_roomNames : Nat → Option Nat} {mX0_calls : Nat → Option Nat} {mX0_names : Nat → Option Nat} {mX0_versions : Nat → Option Nat} {mX0_values : Nat → Option Nat} {mX0_proofs : Nat → Option Nat} {mX0_rights : Nat → Option Nat} {mX0_classes : Nat → Option Nat} {mX0_facets : Nat → Option Nat} {mX0_tables : Nat → Option Nat} {mX0_rules : Nat → Option Nat} {mX0_rewrite : Nat → Option Nat} {mX0_disk : Nat → Option Nat} {mX0_tape : Nat → Option Nat} {mX0_size : Nat → Int32} {mX0_begins : Nat → Option Nat} {mX0_ends : Nat → Option Nat} {mX0_words : Nat → Int32} {mX0_args : Nat → Option Nat} {mX0_answers : Nat → Option Nat} {mX0_threw : Nat → Option Nat} {mX0_done : Nat → Int32} {mX0_wrong : Nat → Int32} {mX0_entries : Nat → Option Nat} {mX0_entryCount : Nat → Int32} {mX44_room : Nat → Int32} {mX44_number : Nat → Int32} {mX44_word : Nat → Option Nat} {mX44_kinds : Nat → Option Nat} {mJ1_modCount : Nat → Int32} {mJ2_elementData : Nat → Option Nat} {mJ2_size : Nat → Int32} (n q : Nat) : va_up (cSH ci d kd an ai al ar mX0_roomNames mX0_calls mX0_names mX0_versions mX0_values mX0_proofs mX0_rights mX0_classes mX0_facets mX0_tables mX0_rules mX0_rewrite mX0_disk mX0_tape mX0_size mX0_begins mX0_ends mX0_words mX0_args mX0_answers mX0_threw mX0_done mX0_wrong mX0_entries mX0_entryCount mX44_room mX44_number mX44_word mX44_kinds mJ1_modCount mJ2_elementData mJ2_size) q (.inl (d 0, n, .inl (fun _ => 0))) = (cSH ci d (va_up kd q 4) (va_up an q n) (va_up ai q (fun _ => 0)) al ar mX0_roomNames mX0_calls mX0_names mX0_versions mX0_values mX0_proofs mX0_rights mX0_classes mX0_facets mX0_tables mX0_rules mX0_rewrite mX0_disk mX0_tape mX0_size mX0_begins mX0_ends mX0_words mX0_args mX0_answers mX0_threw mX0_done mX0_wrong mX0_entries mX0_entryCount mX44_room mX44_number mX44_word mX44_kinds mJ1_modCount mJ2_elementData mJ2_size) := by
  funext b
  by_cases h : b = q
  · subst h
    rw [va_up_self]
    unfold cSH
    simp only [va_up_self]
  · rw [va_up_ne _ _ h]
    unfold cSH
    simp only [va_up_ne _ _ h]
theorem cSH_5 {ci : Nat → Nat} {d : Nat → ClassId} {kd : Nat → Nat} {an : Nat → Nat} {ai : Nat → Nat → Int32} {al : Nat → Nat → Int64} {ar : Nat → Nat → Option Nat} {mX0_roomNames : Nat → Option Nat} {mX0_calls : Nat → Option Nat} {mX0_names : Nat → Option Nat} {mX0_versions : Nat → Option Nat} {mX0_values : Nat → Option Nat} {mX0_proofs : Nat → Option Nat} {mX0_rights : Nat → Option Nat} {mX0_classes : Nat → Option Nat} {mX0_facets : Nat → Option Nat} {mX0_tables : Nat → Option Nat} {mX0_rules : Nat → Option Nat} {mX0_rewrite : Nat → Option Nat} {mX0_disk : Nat → Option Nat} {mX0_tape : Nat → Option Nat} {mX0_size : Nat → Int32} {mX0_begins : Nat → Option Nat} {mX0_ends : Nat → Option Nat} {mX0_words : Nat → Int32} {mX0_args : Nat → Option Nat} {mX0_answers : Nat → Option Nat} {mX0_threw : Nat → Option Nat} {mX0_done : Nat → Int32} {mX0_wrong : Nat → Int32} {mX0_entries : Nat → Option Nat} {mX0_entryCount : Nat → Int32} {mX44_room : Nat → Int32} {mX44_number : Nat → Int32} {mX44_word : Nat → Option Nat} {mX44_kinds : Nat → Option Nat} {mJ1_modCount : Nat → Int32} {mJ2_elementData : Nat → Option Nat} {mJ2_size : Nat → Int32} {a : Nat} (hk : kd a = 5) : (cSH ci d kd an ai al ar mX0_roomNames mX0_calls mX0_names mX0_versions mX0_values mX0_proofs mX0_rights mX0_classes mX0_facets mX0_tables mX0_rules mX0_rewrite mX0_disk mX0_tape mX0_size mX0_begins mX0_ends mX0_words mX0_args mX0_answers mX0_threw mX0_done mX0_wrong mX0_entries mX0_entryCount mX44_room mX44_number mX44_word mX44_kinds mJ1_modCount mJ2_elementData mJ2_size) a = .inl (d 1, an a, .inl (ai a)) := by unfold cSH; simp only [hk]
theorem cSH_5_s {ci : Nat → Nat} {d : Nat → ClassId} {kd : Nat → Nat} {an : Nat → Nat} {ai : Nat → Nat → Int32} {al : Nat → Nat → Int64} {ar : Nat → Nat → Option Nat} {mX0_roomNames : Nat → Option Nat} {mX0_calls : Nat → Option Nat} {mX0_names : Nat → Option Nat} {mX0_versions : Nat → Option Nat} {mX0_values : Nat → Option Nat} {mX0_proofs : Nat → Option Nat} {mX0_rights : Nat → Option Nat} {mX0_classes : Nat → Option Nat} {mX0_facets : Nat → Option Nat} {mX0_tables : Nat → Option Nat} {mX0_rules : Nat → Option Nat} {mX0_rewrite : Nat → Option Nat} {mX0_disk : Nat → Option Nat} {mX0_tape : Nat → Option Nat} {mX0_size : Nat → Int32} {mX0_begins : Nat → Option Nat} {mX0_ends : Nat → Option Nat} {mX0_words : Nat → Int32} {mX0_args : Nat → Option Nat} {mX0_answers : Nat → Option Nat} {mX0_threw : Nat → Option Nat} {mX0_done : Nat → Int32} {mX0_wrong : Nat → Int32} {mX0_entries : Nat → Option Nat} {mX0_entryCount : Nat → Int32} {mX44_room : Nat → Int32} {mX44_number : Nat → Int32} {mX44_word : Nat → Option Nat} {mX44_kinds : Nat → Option Nat} {mJ1_modCount : Nat → Int32} {mJ2_elementData : Nat → Option Nat} {mJ2_size : Nat → Int32} {a : Nat} {g : Nat → Int32} (hk : kd a = 5) : va_up (cSH ci d kd an ai al ar mX0_roomNames mX0_calls mX0_names mX0_versions mX0_values mX0_proofs mX0_rights mX0_classes mX0_facets mX0_tables mX0_rules mX0_rewrite mX0_disk mX0_tape mX0_size mX0_begins mX0_ends mX0_words mX0_args mX0_answers mX0_threw mX0_done mX0_wrong mX0_entries mX0_entryCount mX44_room mX44_number mX44_word mX44_kinds mJ1_modCount mJ2_elementData mJ2_size) a (.inl (d 1, an a, .inl g)) = (cSH ci d kd an (va_up ai a g) al ar mX0_roomNames mX0_calls mX0_names mX0_versions mX0_values mX0_proofs mX0_rights mX0_classes mX0_facets mX0_tables mX0_rules mX0_rewrite mX0_disk mX0_tape mX0_size mX0_begins mX0_ends mX0_words mX0_args mX0_answers mX0_threw mX0_done mX0_wrong mX0_entries mX0_entryCount mX44_room mX44_number mX44_word mX44_kinds mJ1_modCount mJ2_elementData mJ2_size) := by
  funext b
  by_cases h : b = a
  · subst h
    rw [va_up_self]
    unfold cSH
    rw [hk]
    simp only [va_up_self]
  · rw [va_up_ne _ _ h]
    unfold cSH
    simp only [va_up_ne _ _ h]
theorem cSH_5_n {ci : Nat → Nat} {d : Nat → ClassId} {kd : Nat → Nat} {an : Nat → Nat} {ai : Nat → Nat → Int32} {al : Nat → Nat → Int64} {ar : Nat → Nat → Option Nat} {mX0_roomNames : Nat → Option Nat} {mX0_calls : Nat → Option Nat} {mX0_names : Nat → Option Nat} {mX0_versions : Nat → Option Nat} {mX0_values : Nat → Option Nat} {mX0_proofs : Nat → Option Nat} {mX0_rights : Nat → Option Nat} {mX0_classes : Nat → Option Nat} {mX0_facets : Nat → Option Nat} {mX0_tables : Nat → Option Nat} {mX0_rules : Nat → Option Nat} {mX0_rewrite : Nat → Option Nat} {mX0_disk : Nat → Option Nat} {mX0_tape : Nat → Option Nat} {mX0_size : Nat → Int32} {mX0_begins : Nat → Option Nat} {mX0_ends : Nat → Option Nat} {mX0_words : Nat → Int32} {mX0_args : Nat → Option Nat} {mX0_answers : Nat → Option Nat} {mX0_threw : Nat → Option Nat} {mX0_done : Nat → Int32} {mX0_wrong : Nat → Int32} {mX0_entries : Nat → Option Nat} {mX0_entryCount : Nat → Int32} {mX44_room : Nat → Int32} {mX44_number : Nat → Int32} {mX44_word : Nat → Option Nat} {mX44_kinds : Nat → Option Nat} {mJ1_modCount : Nat → Int32} {mJ2_elementData : Nat → Option Nat} {mJ2_size : Nat → Int32} (n q : Nat) : va_up (cSH ci d kd an ai al ar mX0_roomNames mX0_calls mX0_names mX0_versions mX0_values mX0_proofs mX0_rights mX0_classes mX0_facets mX0_tables mX0_rules mX0_rewrite mX0_disk mX0_tape mX0_size mX0_begins mX0_ends mX0_words mX0_args mX0_answers mX0_threw mX0_done mX0_wrong mX0_entries mX0_entryCount mX44_room mX44_number mX44_word mX44_kinds mJ1_modCount mJ2_elementData mJ2_size) q (.inl (d 1, n, .inl (fun _ => 0))) = (cSH ci d (va_up kd q 5) (va_up an q n) (va_up ai q (fun _ => 0)) al ar mX0_roomNames mX0_calls mX0_names mX0_versions mX0_values mX0_proofs mX0_rights mX0_classes mX0_facets mX0_tables mX0_rules mX0_rewrite mX0_disk mX0_tape mX0_size mX0_begins mX0_ends mX0_words mX0_args mX0_answers mX0_threw mX0_done mX0_wrong mX0_entries mX0_entryCount mX44_room mX44_number mX44_word mX44_kinds mJ1_modCount mJ2_elementData mJ2_size) := by
  funext b
  by_cases h : b = q
  · subst h
    rw [va_up_self]
    unfold cSH
    simp only [va_up_self]
  · rw [va_up_ne _ _ h]
    unfold cSH
    simp only [va_up_ne _ _ h]
theorem cSH_6 {ci : Nat → Nat} {d : Nat → ClassId} {kd : Nat → Nat} {an : Nat → Nat} {ai : Nat → Nat → Int32} {al : Nat → Nat → Int64} {ar : Nat → Nat → Option Nat} {mX0_roomNames : Nat → Option Nat} {mX0_calls : Nat → Option Nat} {mX0_names : Nat → Option Nat} {mX0_versions : Nat → Option Nat} {mX0_values : Nat → Option Nat} {mX0_proofs : Nat → Option Nat} {mX0_rights : Nat → Option Nat} {mX0_classes : Nat → Option Nat} {mX0_facets : Nat → Option Nat} {mX0_tables : Nat → Option Nat} {mX0_rules : Nat → Option Nat} {mX0_rewrite : Nat → Option Nat} {mX0_disk : Nat → Option Nat} {mX0_tape : Nat → Option Nat} {mX0_size : Nat → Int32} {mX0_begins : Nat → Option Nat} {mX0_ends : Nat → Option Nat} {mX0_words : Nat → Int32} {mX0_args : Nat → Option Nat} {mX0_answers : Nat → Option Nat} {mX0_threw : Nat → Option Nat} {mX0_done : Nat → Int32} {mX0_wrong : Nat → Int32} {mX0_entries : Nat → Option Nat} {mX0_entryCount : Nat → Int32} {mX44_room : Nat → Int32} {mX44_number : Nat → Int32} {mX44_word : Nat → Option Nat} {mX44_kinds : Nat → Option Nat} {mJ1_modCount : Nat → Int32} {mJ2_elementData : Nat → Option Nat} {mJ2_size : Nat → Int32} {a : Nat} (hk : kd a = 6) : (cSH ci d kd an ai al ar mX0_roomNames mX0_calls mX0_names mX0_versions mX0_values mX0_proofs mX0_rights mX0_classes mX0_facets mX0_tables mX0_rules mX0_rewrite mX0_disk mX0_tape mX0_size mX0_begins mX0_ends mX0_words mX0_args mX0_answers mX0_threw mX0_done mX0_wrong mX0_entries mX0_entryCount mX44_room mX44_number mX44_word mX44_kinds mJ1_modCount mJ2_elementData mJ2_size) a = .inl (d 2, an a, .inl (ai a)) := by unfold cSH; simp only [hk]
theorem cSH_6_s {ci : Nat → Nat} {d : Nat → ClassId} {kd : Nat → Nat} {an : Nat → Nat} {ai : Nat → Nat → Int32} {al : Nat → Nat → Int64} {ar : Nat → Nat → Option Nat} {mX0_roomNames : Nat → Option Nat} {mX0_calls : Nat → Option Nat} {mX0_names : Nat → Option Nat} {mX0_versions : Nat → Option Nat} {mX0_values : Nat → Option Nat} {mX0_proofs : Nat → Option Nat} {mX0_rights : Nat → Option Nat} {mX0_classes : Nat → Option Nat} {mX0_facets : Nat → Option Nat} {mX0_tables : Nat → Option Nat} {mX0_rules : Nat → Option Nat} {mX0_rewrite : Nat → Option Nat} {mX0_disk : Nat → Option Nat} {mX0_tape : Nat → Option Nat} {mX0_size : Nat → Int32} {mX0_begins : Nat → Option Nat} {mX0_ends : Nat → Option Nat} {mX0_words : Nat → Int32} {mX0_args : Nat → Option Nat} {mX0_answers : Nat → Option Nat} {mX0_threw : Nat → Option Nat} {mX0_done : Nat → Int32} {mX0_wrong : Nat → Int32} {mX0_entries : Nat → Option Nat} {mX0_entryCount : Nat → Int32} {mX44_room : Nat → Int32} {mX44_number : Nat → Int32} {mX44_word : Nat → Option Nat} {mX44_kinds : Nat → Option Nat} {mJ1_modCount : Nat → Int32} {mJ2_elementData : Nat → Option Nat} {mJ2_size : Nat → Int32} {a : Nat} {g : Nat → Int32} (hk : kd a = 6) : va_up (cSH ci d kd an ai al ar mX0_roomNames mX0_calls mX0_names mX0_versions mX0_values mX0_proofs mX0_rights mX0_classes mX0_facets mX0_tables mX0_rules mX0_rewrite mX0_disk mX0_tape mX0_size mX0_begins mX0_ends mX0_words mX0_args mX0_answers mX0_threw mX0_done mX0_wrong mX0_entries mX0_entryCount mX44_room mX44_number mX44_word mX44_kinds mJ1_modCount mJ2_elementData mJ2_size) a (.inl (d 2, an a, .inl g)) = (cSH ci d kd an (va_up ai a g) al ar mX0_roomNames mX0_calls mX0_names mX0_versions mX0_values mX0_proofs mX0_rights mX0_classes mX0_facets mX0_tables mX0_rules mX0_rewrite mX0_disk mX0_tape mX0_size mX0_begins mX0_ends mX0_words mX0_args mX0_answers mX0_threw mX0_done mX0_wrong mX0_entries mX0_entryCount mX44_room mX44_number mX44_word mX44_kinds mJ1_modCount mJ2_elementData mJ2_size) := by
  funext b
  by_cases h : b = a
  · subst h
    rw [va_up_self]
    unfold cSH
    rw [hk]
    simp only [va_up_self]
  · rw [va_up_ne _ _ h]
    unfold cSH
    simp only [va_up_ne _ _ h]
theorem cSH_6_n {ci : Nat → Nat} {d : Nat → ClassId} {kd : Nat → Nat} {an : Nat → Nat} {ai : Nat → Nat → Int32} {al : Nat → Nat → Int64} {ar : Nat → Nat → Option Nat} {mX0_roomNames : Nat → Option Nat} {mX0_calls : Nat → Option Nat} {mX0_names : Nat → Option Nat} {mX0_versions : Nat → Option Nat} {mX0_values : Nat → Option Nat} {mX0_proofs : Nat → Option Nat} {mX0_rights : Nat → Option Nat} {mX0_classes : Nat → Option Nat} {mX0_facets : Nat → Option Nat} {mX0_tables : Nat → Option Nat} {mX0_rules : Nat → Option Nat} {mX0_rewrite : Nat → Option Nat} {mX0_disk : Nat → Option Nat} {mX0_tape : Nat → Option Nat} {mX0_size : Nat → Int32} {mX0_begins : Nat → Option Nat} {mX0_ends : Nat → Option Nat} {mX0_words : Nat → Int32} {mX0_args : Nat → Option Nat} {mX0_answers : Nat → Option Nat} {mX0_threw : Nat → Option Nat} {mX0_done : Nat → Int32} {mX0_wrong : Nat → Int32} {mX0_entries : Nat → Option Nat} {mX0_entryCount : Nat → Int32} {mX44_room : Nat → Int32} {mX44_number : Nat → Int32} {mX44_word : Nat → Option Nat} {mX44_kinds : Nat → Option Nat} {mJ1_modCount : Nat → Int32} {mJ2_elementData : Nat → Option Nat} {mJ2_size : Nat → Int32} (n q : Nat) : va_up (cSH ci d kd an ai al ar mX0_roomNames mX0_calls mX0_names mX0_versions mX0_values mX0_proofs mX0_rights mX0_classes mX0_facets mX0_tables mX0_rules mX0_rewrite mX0_disk mX0_tape mX0_size mX0_begins mX0_ends mX0_words mX0_args mX0_answers mX0_threw mX0_done mX0_wrong mX0_entries mX0_entryCount mX44_room mX44_number mX44_word mX44_kinds mJ1_modCount mJ2_elementData mJ2_size) q (.inl (d 2, n, .inl (fun _ => 0))) = (cSH ci d (va_up kd q 6) (va_up an q n) (va_up ai q (fun _ => 0)) al ar mX0_roomNames mX0_calls mX0_names mX0_versions mX0_values mX0_proofs mX0_rights mX0_classes mX0_facets mX0_tables mX0_rules mX0_rewrite mX0_disk mX0_tape mX0_size mX0_begins mX0_ends mX0_words mX0_args mX0_answers mX0_threw mX0_done mX0_wrong mX0_entries mX0_entryCount mX44_room mX44_number mX44_word mX44_kinds mJ1_modCount mJ2_elementData mJ2_size) := by
  funext b
  by_cases h : b = q
  · subst h
    rw [va_up_self]
    unfold cSH
    simp only [va_up_self]
  · rw [va_up_ne _ _ h]
    unfold cSH
    simp only [va_up_ne _ _ h]
theorem cSH_7 {ci : Nat → Nat} {d : Nat → ClassId} {kd : Nat → Nat} {an : Nat → Nat} {ai : Nat → Nat → Int32} {al : Nat → Nat → Int64} {ar : Nat → Nat → Option Nat} {mX0_roomNames : Nat → Option Nat} {mX0_calls : Nat → Option Nat} {mX0_names : Nat → Option Nat} {mX0_versions : Nat → Option Nat} {mX0_values : Nat → Option Nat} {mX0_proofs : Nat → Option Nat} {mX0_rights : Nat → Option Nat} {mX0_classes : Nat → Option Nat} {mX0_facets : Nat → Option Nat} {mX0_tables : Nat → Option Nat} {mX0_rules : Nat → Option Nat} {mX0_rewrite : Nat → Option Nat} {mX0_disk : Nat → Option Nat} {mX0_tape : Nat → Option Nat} {mX0_size : Nat → Int32} {mX0_begins : Nat → Option Nat} {mX0_ends : Nat → Option Nat} {mX0_words : Nat → Int32} {mX0_args : Nat → Option Nat} {mX0_answers : Nat → Option Nat} {mX0_threw : Nat → Option Nat} {mX0_done : Nat → Int32} {mX0_wrong : Nat → Int32} {mX0_entries : Nat → Option Nat} {mX0_entryCount : Nat → Int32} {mX44_room : Nat → Int32} {mX44_number : Nat → Int32} {mX44_word : Nat → Option Nat} {mX44_kinds : Nat → Option Nat} {mJ1_modCount : Nat → Int32} {mJ2_elementData : Nat → Option Nat} {mJ2_size : Nat → Int32} {a : Nat} (hk : kd a = 7) : (cSH ci d kd an ai al ar mX0_roomNames mX0_calls mX0_names mX0_versions mX0_values mX0_proofs mX0_rights mX0_classes mX0_facets mX0_tables mX0_rules mX0_rewrite mX0_disk mX0_tape mX0_size mX0_begins mX0_ends mX0_words mX0_args mX0_answers mX0_threw mX0_done mX0_wrong mX0_entries mX0_entryCount mX44_room mX44_number mX44_word mX44_kinds mJ1_modCount mJ2_elementData mJ2_size) a = .inl (d 3, an a, .inr (.inl (al a))) := by unfold cSH; simp only [hk]
theorem cSH_7_s {ci : Nat → Nat} {d : Nat → ClassId} {kd : Nat → Nat} {an : Nat → Nat} {ai : Nat → Nat → Int32} {al : Nat → Nat → Int64} {ar : Nat → Nat → Option Nat} {mX0_roomNames : Nat → Option Nat} {mX0_calls : Nat → Option Nat} {mX0_names : Nat → Option Nat} {mX0_versions : Nat → Option Nat} {mX0_values : Nat → Option Nat} {mX0_proofs : Nat → Option Nat} {mX0_rights : Nat → Option Nat} {mX0_classes : Nat → Option Nat} {mX0_facets : Nat → Option Nat} {mX0_tables : Nat → Option Nat} {mX0_rules : Nat → Option Nat} {mX0_rewrite : Nat → Option Nat} {mX0_disk : Nat → Option Nat} {mX0_tape : Nat → Option Nat} {mX0_size : Nat → Int32} {mX0_begins : Nat → Option Nat} {mX0_ends : Nat → Option Nat} {mX0_words : Nat → Int32} {mX0_args : Nat → Option Nat} {mX0_answers : Nat → Option Nat} {mX0_threw : Nat → Option Nat} {mX0_done : Nat → Int32} {mX0_wrong : Nat → Int32} {mX0_entries : Nat → Option Nat} {mX0_entryCount : Nat → Int32} {mX44_room : Nat → Int32} {mX44_number : Nat → Int32} {mX44_word : Nat → Option Nat} {mX44_kinds : Nat → Option Nat} {mJ1_modCount : Nat → Int32} {mJ2_elementData : Nat → Option Nat} {mJ2_size : Nat → Int32} {a : Nat} {g : Nat → Int64} (hk : kd a = 7) : va_up (cSH ci d kd an ai al ar mX0_roomNames mX0_calls mX0_names mX0_versions mX0_values mX0_proofs mX0_rights mX0_classes mX0_facets mX0_tables mX0_rules mX0_rewrite mX0_disk mX0_tape mX0_size mX0_begins mX0_ends mX0_words mX0_args mX0_answers mX0_threw mX0_done mX0_wrong mX0_entries mX0_entryCount mX44_room mX44_number mX44_word mX44_kinds mJ1_modCount mJ2_elementData mJ2_size) a (.inl (d 3, an a, .inr (.inl g))) = (cSH ci d kd an ai (va_up al a g) ar mX0_roomNames mX0_calls mX0_names mX0_versions mX0_values mX0_proofs mX0_rights mX0_classes mX0_facets mX0_tables mX0_rules mX0_rewrite mX0_disk mX0_tape mX0_size mX0_begins mX0_ends mX0_words mX0_args mX0_answers mX0_threw mX0_done mX0_wrong mX0_entries mX0_entryCount mX44_room mX44_number mX44_word mX44_kinds mJ1_modCount mJ2_elementData mJ2_size) := by
  funext b
  by_cases h : b = a
  · subst h
    rw [va_up_self]
    unfold cSH
    rw [hk]
    simp only [va_up_self]
  · rw [va_up_ne _ _ h]
    unfold cSH
    simp only [va_up_ne _ _ h]
theorem cSH_7_n {ci : Nat → Nat} {d : Nat → ClassId} {kd : Nat → Nat} {an : Nat → Nat} {ai : Nat → Nat → Int32} {al : Nat → Nat → Int64} {ar : Nat → Nat → Option Nat} {mX0_roomNames : Nat → Option Nat} {mX0_calls : Nat → Option Nat} {mX0_names : Nat → Option Nat} {mX0_versions : Nat → Option Nat} {mX0_values : Nat → Option Nat} {mX0_proofs : Nat → Option Nat} {mX0_rights : Nat → Option Nat} {mX0_classes : Nat → Option Nat} {mX0_facets : Nat → Option Nat} {mX0_tables : Nat → Option Nat} {mX0_rules : Nat → Option Nat} {mX0_rewrite : Nat → Option Nat} {mX0_disk : Nat → Option Nat} {mX0_tape : Nat → Option Nat} {mX0_size : Nat → Int32} {mX0_begins : Nat → Option Nat} {mX0_ends : Nat → Option Nat} {mX0_words : Nat → Int32} {mX0_args : Nat → Option Nat} {mX0_answers : Nat → Option Nat} {mX0_threw : Nat → Option Nat} {mX0_done : Nat → Int32} {mX0_wrong : Nat → Int32} {mX0_entries : Nat → Option Nat} {mX0_entryCount : Nat → Int32} {mX44_room : Nat → Int32} {mX44_number : Nat → Int32} {mX44_word : Nat → Option Nat} {mX44_kinds : Nat → Option Nat} {mJ1_modCount : Nat → Int32} {mJ2_elementData : Nat → Option Nat} {mJ2_size : Nat → Int32} (n q : Nat) : va_up (cSH ci d kd an ai al ar mX0_roomNames mX0_calls mX0_names mX0_versions mX0_values mX0_proofs mX0_rights mX0_classes mX0_facets mX0_tables mX0_rules mX0_rewrite mX0_disk mX0_tape mX0_size mX0_begins mX0_ends mX0_words mX0_args mX0_answers mX0_threw mX0_done mX0_wrong mX0_entries mX0_entryCount mX44_room mX44_number mX44_word mX44_kinds mJ1_modCount mJ2_elementData mJ2_size) q (.inl (d 3, n, .inr (.inl (fun _ => 0)))) = (cSH ci d (va_up kd q 7) (va_up an q n) ai (va_up al q (fun _ => 0)) ar mX0_roomNames mX0_calls mX0_names mX0_versions mX0_values mX0_proofs mX0_rights mX0_classes mX0_facets mX0_tables mX0_rules mX0_rewrite mX0_disk mX0_tape mX0_size mX0_begins mX0_ends mX0_words mX0_args mX0_answers mX0_threw mX0_done mX0_wrong mX0_entries mX0_entryCount mX44_room mX44_number mX44_word mX44_kinds mJ1_modCount mJ2_elementData mJ2_size) := by
  funext b
  by_cases h : b = q
  · subst h
    rw [va_up_self]
    unfold cSH
    simp only [va_up_self]
  · rw [va_up_ne _ _ h]
    unfold cSH
    simp only [va_up_ne _ _ h]
theorem cSH_8 {ci : Nat → Nat} {d : Nat → ClassId} {kd : Nat → Nat} {an : Nat → Nat} {ai : Nat → Nat → Int32} {al : Nat → Nat → Int64} {ar : Nat → Nat → Option Nat} {mX0_roomNames : Nat → Option Nat} {mX0_calls : Nat → Option Nat} {mX0_names : Nat → Option Nat} {mX0_versions : Nat → Option Nat} {mX0_values : Nat → Option Nat} {mX0_proofs : Nat → Option Nat} {mX0_rights : Nat → Option Nat} {mX0_classes : Nat → Option Nat} {mX0_facets : Nat → Option Nat} {mX0_tables : Nat → Option Nat} {mX0_rules : Nat → Option Nat} {mX0_rewrite : Nat → Option Nat} {mX0_disk : Nat → Option Nat} {mX0_tape : Nat → Option Nat} {mX0_size : Nat → Int32} {mX0_begins : Nat → Option Nat} {mX0_ends : Nat → Option Nat} {mX0_words : Nat → Int32} {mX0_args : Nat → Option Nat} {mX0_answers : Nat → Option Nat} {mX0_threw : Nat → Option Nat} {mX0_done : Nat → Int32} {mX0_wrong : Nat → Int32} {mX0_entries : Nat → Option Nat} {mX0_entryCount : Nat → Int32} {mX44_room : Nat → Int32} {mX44_number : Nat → Int32} {mX44_word : Nat → Option Nat} {mX44_kinds : Nat → Option Nat} {mJ1_modCount : Nat → Int32} {mJ2_elementData : Nat → Option Nat} {mJ2_size : Nat → Int32} {a : Nat} (hk : kd a = 8) : (cSH ci d kd an ai al ar mX0_roomNames mX0_calls mX0_names mX0_versions mX0_values mX0_proofs mX0_rights mX0_classes mX0_facets mX0_tables mX0_rules mX0_rewrite mX0_disk mX0_tape mX0_size mX0_begins mX0_ends mX0_words mX0_args mX0_answers mX0_threw mX0_done mX0_wrong mX0_entries mX0_entryCount mX44_room mX44_number mX44_word mX44_kinds mJ1_modCount mJ2_elementData mJ2_size) a = .inl (d 4, an a, .inr (.inr (.inr (.inr (ar a))))) := by unfold cSH; simp only [hk]
theorem cSH_8_s {ci : Nat → Nat} {d : Nat → ClassId} {kd : Nat → Nat} {an : Nat → Nat} {ai : Nat → Nat → Int32} {al : Nat → Nat → Int64} {ar : Nat → Nat → Option Nat} {mX0_roomNames : Nat → Option Nat} {mX0_calls : Nat → Option Nat} {mX0_names : Nat → Option Nat} {mX0_versions : Nat → Option Nat} {mX0_values : Nat → Option Nat} {mX0_proofs : Nat → Option Nat} {mX0_rights : Nat → Option Nat} {mX0_classes : Nat → Option Nat} {mX0_facets : Nat → Option Nat} {mX0_tables : Nat → Option Nat} {mX0_rules : Nat → Option Nat} {mX0_rewrite : Nat → Option Nat} {mX0_disk : Nat → Option Nat} {mX0_tape : Nat → Option Nat} {mX0_size : Nat → Int32} {mX0_begins : Nat → Option Nat} {mX0_ends : Nat → Option Nat} {mX0_words : Nat → Int32} {mX0_args : Nat → Option Nat} {mX0_answers : Nat → Option Nat} {mX0_threw : Nat → Option Nat} {mX0_done : Nat → Int32} {mX0_wrong : Nat → Int32} {mX0_entries : Nat → Option Nat} {mX0_entryCount : Nat → Int32} {mX44_room : Nat → Int32} {mX44_number : Nat → Int32} {mX44_word : Nat → Option Nat} {mX44_kinds : Nat → Option Nat} {mJ1_modCount : Nat → Int32} {mJ2_elementData : Nat → Option Nat} {mJ2_size : Nat → Int32} {a : Nat} {g : Nat → Option Nat} (hk : kd a = 8) : va_up (cSH ci d kd an ai al ar mX0_roomNames mX0_calls mX0_names mX0_versions mX0_values mX0_proofs mX0_rights mX0_classes mX0_facets mX0_tables mX0_rules mX0_rewrite mX0_disk mX0_tape mX0_size mX0_begins mX0_ends mX0_words mX0_args mX0_answers mX0_threw mX0_done mX0_wrong mX0_entries mX0_entryCount mX44_room mX44_number mX44_word mX44_kinds mJ1_modCount mJ2_elementData mJ2_size) a (.inl (d 4, an a, .inr (.inr (.inr (.inr g))))) = (cSH ci d kd an ai al (va_up ar a g) mX0_roomNames mX0_calls mX0_names mX0_versions mX0_values mX0_proofs mX0_rights mX0_classes mX0_facets mX0_tables mX0_rules mX0_rewrite mX0_disk mX0_tape mX0_size mX0_begins mX0_ends mX0_words mX0_args mX0_answers mX0_threw mX0_done mX0_wrong mX0_entries mX0_entryCount mX44_room mX44_number mX44_word mX44_kinds mJ1_modCount mJ2_elementData mJ2_size) := by
  funext b
  by_cases h : b = a
  · subst h
    rw [va_up_self]
    unfold cSH
    rw [hk]
    simp only [va_up_self]
  · rw [va_up_ne _ _ h]
    unfold cSH
    simp only [va_up_ne _ _ h]
theorem cSH_8_n {ci : Nat → Nat} {d : Nat → ClassId} {kd : Nat → Nat} {an : Nat → Nat} {ai : Nat → Nat → Int32} {al : Nat → Nat → Int64} {ar : Nat → Nat → Option Nat} {mX0_roomNames : Nat → Option Nat} {mX0_calls : Nat → Option Nat} {mX0_names : Nat → Option Nat} {mX0_versions : Nat → Option Nat} {mX0_values : Nat → Option Nat} {mX0_proofs : Nat → Option Nat} {mX0_rights : Nat → Option Nat} {mX0_classes : Nat → Option Nat} {mX0_facets : Nat → Option Nat} {mX0_tables : Nat → Option Nat} {mX0_rules : Nat → Option Nat} {mX0_rewrite : Nat → Option Nat} {mX0_disk : Nat → Option Nat} {mX0_tape : Nat → Option Nat} {mX0_size : Nat → Int32} {mX0_begins : Nat → Option Nat} {mX0_ends : Nat → Option Nat} {mX0_words : Nat → Int32} {mX0_args : Nat → Option Nat} {mX0_answers : Nat → Option Nat} {mX0_threw : Nat → Option Nat} {mX0_done : Nat → Int32} {mX0_wrong : Nat → Int32} {mX0_entries : Nat → Option Nat} {mX0_entryCount : Nat → Int32} {mX44_room : Nat → Int32} {mX44_number : Nat → Int32} {mX44_word : Nat → Option Nat} {mX44_kinds : Nat → Option Nat} {mJ1_modCount : Nat → Int32} {mJ2_elementData : Nat → Option Nat} {mJ2_size : Nat → Int32} (n q : Nat) : va_up (cSH ci d kd an ai al ar mX0_roomNames mX0_calls mX0_names mX0_versions mX0_values mX0_proofs mX0_rights mX0_classes mX0_facets mX0_tables mX0_rules mX0_rewrite mX0_disk mX0_tape mX0_size mX0_begins mX0_ends mX0_words mX0_args mX0_answers mX0_threw mX0_done mX0_wrong mX0_entries mX0_entryCount mX44_room mX44_number mX44_word mX44_kinds mJ1_modCount mJ2_elementData mJ2_size) q (.inl (d 4, n, .inr (.inr (.inr (.inr (fun _ => none)))))) = (cSH ci d (va_up kd q 8) (va_up an q n) ai al (va_up ar q (fun _ => none)) mX0_roomNames mX0_calls mX0_names mX0_versions mX0_values mX0_proofs mX0_rights mX0_classes mX0_facets mX0_tables mX0_rules mX0_rewrite mX0_disk mX0_tape mX0_size mX0_begins mX0_ends mX0_words mX0_args mX0_answers mX0_threw mX0_done mX0_wrong mX0_entries mX0_entryCount mX44_room mX44_number mX44_word mX44_kinds mJ1_modCount mJ2_elementData mJ2_size) := by
  funext b
  by_cases h : b = q
  · subst h
    rw [va_up_self]
    unfold cSH
    simp only [va_up_self]
  · rw [va_up_ne _ _ h]
    unfold cSH
    simp only [va_up_ne _ _ h]
