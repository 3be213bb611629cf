/-! room PC (printed by tools/zgen2.py) -/
set_option maxRecDepth 100000
def RX8 : String := "KnowHouse$ProofChecker"
def TX8 : u_T := fun k => match k with
  | 0 => ("KnowHouse$ProofChecker", "rules", "[LKnowHouse$ProofChecker$Rule;", true)
  | 1 => ("KnowHouse$ProofChecker", "axioms", "[LKnowHouse$ProofChecker$Statement;", true)
  | 2 => ("KnowHouse$ProofChecker", "axiomCount", "I", false)
  | 3 => ("KnowHouse$ProofChecker", "givens", "[LKnowHouse$ProofChecker$Statement;", true)
  | 4 => ("KnowHouse$ProofChecker", "givenCount", "I", false)
  | 5 => ("KnowHouse$ProofChecker", "wanted", "LKnowHouse$ProofChecker$Statement;", true)
  | 6 => ("KnowHouse$ProofChecker", "rows", "[LKnowHouse$ProofChecker$Row;", true)
  | 7 => ("KnowHouse$ProofChecker", "rowCount", "I", false)
  | 8 => ("KnowHouse$ProofChecker", "looked", "I", false)
  | 9 => ("KnowHouse$ProofChecker", "from", "[LKnowHouse$ProofChecker$Statement;", true)
  | 10 => ("KnowHouse$ProofChecker", "needed", "[Z", true)
  | 11 => ("KnowHouse$ProofChecker", "broken", "I", false)
  | 12 => ("KnowHouse$ProofChecker", "places", "[I", true)
  | 13 => ("KnowHouse$ProofChecker", "text", "[B", true)
  | _ => ("KnowHouse$ProofChecker", "size", "I", false)
def tyX8 : Nat → FieldType := fun k => match k with
  | 0 => .array (.object "KnowHouse$ProofChecker$Rule")
  | 1 => .array (.object "KnowHouse$ProofChecker$Statement")
  | 2 => .int
  | 3 => .array (.object "KnowHouse$ProofChecker$Statement")
  | 4 => .int
  | 5 => .object "KnowHouse$ProofChecker$Statement"
  | 6 => .array (.object "KnowHouse$ProofChecker$Row")
  | 7 => .int
  | 8 => .int
  | 9 => .array (.object "KnowHouse$ProofChecker$Statement")
  | 10 => .array .boolean
  | 11 => .int
  | 12 => .array .int
  | 13 => .array .byte
  | _ => .int
abbrev wsX80 : List Cond := u_ws RX8 TX8 15
theorem nmX8 : ∀ a, a < 15 → ∀ b, b < 15 → a ≠ b → (TX8 a).2.1 ≠ (TX8 b).2.1 := by decide +kernel
theorem tyX8_ok : ∀ k, k < 15 → parseFieldDescriptor (TX8 k).2.2.1 = some (tyX8 k) := by decide +kernel
abbrev cX8_init : ByteArray := prog_25_method_2_code
def yX8_init : MethodName := ⟨RX8, "<init>", "()V"⟩
theorem dX8_init_0 : decode cX8_init 0 = .ok (.aload_n 0, 1) := by decide +kernel
theorem dX8_init_1 : decode cX8_init 1 = .ok (.invokespecial 12, 3) := by decide +kernel
theorem dX8_init_4 : decode cX8_init 4 = .ok (.aload_n 0, 1) := by decide +kernel
theorem dX8_init_5 : decode cX8_init 5 = .ok (.bipush 18, 2) := by decide +kernel
theorem dX8_init_7 : decode cX8_init 7 = .ok (.anewarray 18, 3) := by decide +kernel
theorem dX8_init_10 : decode cX8_init 10 = .ok (.putfield 20, 3) := by decide +kernel
theorem dX8_init_13 : decode cX8_init 13 = .ok (.aload_n 0, 1) := by decide +kernel
theorem dX8_init_14 : decode cX8_init 14 = .ok (.bipush 100, 2) := by decide +kernel
theorem dX8_init_16 : decode cX8_init 16 = .ok (.anewarray 2, 3) := by decide +kernel
theorem dX8_init_19 : decode cX8_init 19 = .ok (.putfield 24, 3) := by decide +kernel
theorem dX8_init_22 : decode cX8_init 22 = .ok (.aload_n 0, 1) := by decide +kernel
theorem dX8_init_23 : decode cX8_init 23 = .ok (.bipush 100, 2) := by decide +kernel
theorem dX8_init_25 : decode cX8_init 25 = .ok (.anewarray 2, 3) := by decide +kernel
theorem dX8_init_28 : decode cX8_init 28 = .ok (.putfield 28, 3) := by decide +kernel
theorem dX8_init_31 : decode cX8_init 31 = .ok (.aload_n 0, 1) := by decide +kernel
theorem dX8_init_32 : decode cX8_init 32 = .ok (.new 2, 3) := by decide +kernel
theorem dX8_init_35 : decode cX8_init 35 = .ok (.dup, 1) := by decide +kernel
theorem dX8_init_36 : decode cX8_init 36 = .ok (.invokespecial 31, 3) := by decide +kernel
theorem dX8_init_39 : decode cX8_init 39 = .ok (.putfield 32, 3) := by decide +kernel
theorem dX8_init_42 : decode cX8_init 42 = .ok (.aload_n 0, 1) := by decide +kernel
theorem dX8_init_43 : decode cX8_init 43 = .ok (.sipush 301, 3) := by decide +kernel
theorem dX8_init_46 : decode cX8_init 46 = .ok (.anewarray 36, 3) := by decide +kernel
theorem dX8_init_49 : decode cX8_init 49 = .ok (.putfield 38, 3) := by decide +kernel
theorem dX8_init_52 : decode cX8_init 52 = .ok (.aload_n 0, 1) := by decide +kernel
theorem dX8_init_53 : decode cX8_init 53 = .ok (.iconst 3, 1) := by decide +kernel
theorem dX8_init_54 : decode cX8_init 54 = .ok (.anewarray 2, 3) := by decide +kernel
theorem dX8_init_57 : decode cX8_init 57 = .ok (.putfield 42, 3) := by decide +kernel
theorem dX8_init_60 : decode cX8_init 60 = .ok (.aload_n 0, 1) := by decide +kernel
theorem dX8_init_61 : decode cX8_init 61 = .ok (.sipush 301, 3) := by decide +kernel
theorem dX8_init_64 : decode cX8_init 64 = .ok (.newarray .boolean, 2) := by decide +kernel
theorem dX8_init_66 : decode cX8_init 66 = .ok (.putfield 45, 3) := by decide +kernel
theorem dX8_init_69 : decode cX8_init 69 = .ok (.aload_n 0, 1) := by decide +kernel
theorem dX8_init_70 : decode cX8_init 70 = .ok (.sipush 301, 3) := by decide +kernel
theorem dX8_init_73 : decode cX8_init 73 = .ok (.newarray .int, 2) := by decide +kernel
theorem dX8_init_75 : decode cX8_init 75 = .ok (.putfield 49, 3) := by decide +kernel
theorem dX8_init_78 : decode cX8_init 78 = .ok (.aload_n 0, 1) := by decide +kernel
theorem dX8_init_79 : decode cX8_init 79 = .ok (.sipush 200, 3) := by decide +kernel
theorem dX8_init_82 : decode cX8_init 82 = .ok (.newarray .byte, 2) := by decide +kernel
theorem dX8_init_84 : decode cX8_init 84 = .ok (.putfield 53, 3) := by decide +kernel
theorem dX8_init_87 : decode cX8_init 87 = .ok (.aload_n 0, 1) := by decide +kernel
theorem dX8_init_88 : decode cX8_init 88 = .ok (.getfield 20, 3) := by decide +kernel
theorem dX8_init_91 : decode cX8_init 91 = .ok (.iconst 0, 1) := by decide +kernel
theorem dX8_init_92 : decode cX8_init 92 = .ok (.new 57, 3) := by decide +kernel
theorem dX8_init_95 : decode cX8_init 95 = .ok (.dup, 1) := by decide +kernel
theorem dX8_init_96 : decode cX8_init 96 = .ok (.invokespecial 59, 3) := by decide +kernel
theorem dX8_init_99 : decode cX8_init 99 = .ok (.aastore, 1) := by decide +kernel
theorem dX8_init_100 : decode cX8_init 100 = .ok (.aload_n 0, 1) := by decide +kernel
theorem dX8_init_101 : decode cX8_init 101 = .ok (.getfield 20, 3) := by decide +kernel
theorem dX8_init_104 : decode cX8_init 104 = .ok (.iconst 1, 1) := by decide +kernel
theorem dX8_init_105 : decode cX8_init 105 = .ok (.new 60, 3) := by decide +kernel
theorem dX8_init_108 : decode cX8_init 108 = .ok (.dup, 1) := by decide +kernel
theorem dX8_init_109 : decode cX8_init 109 = .ok (.iconst 0, 1) := by decide +kernel
theorem dX8_init_110 : decode cX8_init 110 = .ok (.invokespecial 62, 3) := by decide +kernel
theorem dX8_init_113 : decode cX8_init 113 = .ok (.aastore, 1) := by decide +kernel
theorem dX8_init_114 : decode cX8_init 114 = .ok (.aload_n 0, 1) := by decide +kernel
theorem dX8_init_115 : decode cX8_init 115 = .ok (.getfield 20, 3) := by decide +kernel
theorem dX8_init_118 : decode cX8_init 118 = .ok (.iconst 2, 1) := by decide +kernel
theorem dX8_init_119 : decode cX8_init 119 = .ok (.new 65, 3) := by decide +kernel
theorem dX8_init_122 : decode cX8_init 122 = .ok (.dup, 1) := by decide +kernel
theorem dX8_init_123 : decode cX8_init 123 = .ok (.invokespecial 67, 3) := by decide +kernel
theorem dX8_init_126 : decode cX8_init 126 = .ok (.aastore, 1) := by decide +kernel
theorem dX8_init_127 : decode cX8_init 127 = .ok (.aload_n 0, 1) := by decide +kernel
theorem dX8_init_128 : decode cX8_init 128 = .ok (.getfield 20, 3) := by decide +kernel
theorem dX8_init_131 : decode cX8_init 131 = .ok (.iconst 3, 1) := by decide +kernel
theorem dX8_init_132 : decode cX8_init 132 = .ok (.new 68, 3) := by decide +kernel
theorem dX8_init_135 : decode cX8_init 135 = .ok (.dup, 1) := by decide +kernel
theorem dX8_init_136 : decode cX8_init 136 = .ok (.iconst 1, 1) := by decide +kernel
theorem dX8_init_137 : decode cX8_init 137 = .ok (.ldc 70, 2) := by decide +kernel
theorem dX8_init_139 : decode cX8_init 139 = .ok (.invokespecial 72, 3) := by decide +kernel
theorem dX8_init_142 : decode cX8_init 142 = .ok (.aastore, 1) := by decide +kernel
theorem dX8_init_143 : decode cX8_init 143 = .ok (.aload_n 0, 1) := by decide +kernel
theorem dX8_init_144 : decode cX8_init 144 = .ok (.getfield 20, 3) := by decide +kernel
theorem dX8_init_147 : decode cX8_init 147 = .ok (.iconst 4, 1) := by decide +kernel
theorem dX8_init_148 : decode cX8_init 148 = .ok (.new 68, 3) := by decide +kernel
theorem dX8_init_151 : decode cX8_init 151 = .ok (.dup, 1) := by decide +kernel
theorem dX8_init_152 : decode cX8_init 152 = .ok (.iconst 2, 1) := by decide +kernel
theorem dX8_init_153 : decode cX8_init 153 = .ok (.ldc 75, 2) := by decide +kernel
theorem dX8_init_155 : decode cX8_init 155 = .ok (.invokespecial 72, 3) := by decide +kernel
theorem dX8_init_158 : decode cX8_init 158 = .ok (.aastore, 1) := by decide +kernel
theorem dX8_init_159 : decode cX8_init 159 = .ok (.aload_n 0, 1) := by decide +kernel
theorem dX8_init_160 : decode cX8_init 160 = .ok (.getfield 20, 3) := by decide +kernel
theorem dX8_init_163 : decode cX8_init 163 = .ok (.iconst 5, 1) := by decide +kernel
theorem dX8_init_164 : decode cX8_init 164 = .ok (.new 77, 3) := by decide +kernel
theorem dX8_init_167 : decode cX8_init 167 = .ok (.dup, 1) := by decide +kernel
theorem dX8_init_168 : decode cX8_init 168 = .ok (.invokespecial 79, 3) := by decide +kernel
theorem dX8_init_171 : decode cX8_init 171 = .ok (.aastore, 1) := by decide +kernel
theorem dX8_init_172 : decode cX8_init 172 = .ok (.aload_n 0, 1) := by decide +kernel
theorem dX8_init_173 : decode cX8_init 173 = .ok (.getfield 20, 3) := by decide +kernel
theorem dX8_init_176 : decode cX8_init 176 = .ok (.bipush 6, 2) := by decide +kernel
theorem dX8_init_178 : decode cX8_init 178 = .ok (.new 80, 3) := by decide +kernel
theorem dX8_init_181 : decode cX8_init 181 = .ok (.dup, 1) := by decide +kernel
theorem dX8_init_182 : decode cX8_init 182 = .ok (.invokespecial 82, 3) := by decide +kernel
theorem dX8_init_185 : decode cX8_init 185 = .ok (.aastore, 1) := by decide +kernel
theorem dX8_init_186 : decode cX8_init 186 = .ok (.aload_n 0, 1) := by decide +kernel
theorem dX8_init_187 : decode cX8_init 187 = .ok (.getfield 20, 3) := by decide +kernel
theorem dX8_init_190 : decode cX8_init 190 = .ok (.bipush 7, 2) := by decide +kernel
theorem dX8_init_192 : decode cX8_init 192 = .ok (.new 83, 3) := by decide +kernel
theorem dX8_init_195 : decode cX8_init 195 = .ok (.dup, 1) := by decide +kernel
theorem dX8_init_196 : decode cX8_init 196 = .ok (.iconst 1, 1) := by decide +kernel
theorem dX8_init_197 : decode cX8_init 197 = .ok (.invokespecial 85, 3) := by decide +kernel
theorem dX8_init_200 : decode cX8_init 200 = .ok (.aastore, 1) := by decide +kernel
theorem dX8_init_201 : decode cX8_init 201 = .ok (.aload_n 0, 1) := by decide +kernel
theorem dX8_init_202 : decode cX8_init 202 = .ok (.getfield 20, 3) := by decide +kernel
theorem dX8_init_205 : decode cX8_init 205 = .ok (.bipush 8, 2) := by decide +kernel
theorem dX8_init_207 : decode cX8_init 207 = .ok (.new 83, 3) := by decide +kernel
theorem dX8_init_210 : decode cX8_init 210 = .ok (.dup, 1) := by decide +kernel
theorem dX8_init_211 : decode cX8_init 211 = .ok (.iconst 0, 1) := by decide +kernel
theorem dX8_init_212 : decode cX8_init 212 = .ok (.invokespecial 85, 3) := by decide +kernel
theorem dX8_init_215 : decode cX8_init 215 = .ok (.aastore, 1) := by decide +kernel
theorem dX8_init_216 : decode cX8_init 216 = .ok (.aload_n 0, 1) := by decide +kernel
theorem dX8_init_217 : decode cX8_init 217 = .ok (.getfield 20, 3) := by decide +kernel
theorem dX8_init_220 : decode cX8_init 220 = .ok (.bipush 9, 2) := by decide +kernel
theorem dX8_init_222 : decode cX8_init 222 = .ok (.new 86, 3) := by decide +kernel
theorem dX8_init_225 : decode cX8_init 225 = .ok (.dup, 1) := by decide +kernel
theorem dX8_init_226 : decode cX8_init 226 = .ok (.iconst 1, 1) := by decide +kernel
theorem dX8_init_227 : decode cX8_init 227 = .ok (.invokespecial 88, 3) := by decide +kernel
theorem dX8_init_230 : decode cX8_init 230 = .ok (.aastore, 1) := by decide +kernel
theorem dX8_init_231 : decode cX8_init 231 = .ok (.aload_n 0, 1) := by decide +kernel
theorem dX8_init_232 : decode cX8_init 232 = .ok (.getfield 20, 3) := by decide +kernel
theorem dX8_init_235 : decode cX8_init 235 = .ok (.bipush 10, 2) := by decide +kernel
theorem dX8_init_237 : decode cX8_init 237 = .ok (.new 89, 3) := by decide +kernel
theorem dX8_init_240 : decode cX8_init 240 = .ok (.dup, 1) := by decide +kernel
theorem dX8_init_241 : decode cX8_init 241 = .ok (.invokespecial 91, 3) := by decide +kernel
theorem dX8_init_244 : decode cX8_init 244 = .ok (.aastore, 1) := by decide +kernel
theorem dX8_init_245 : decode cX8_init 245 = .ok (.aload_n 0, 1) := by decide +kernel
theorem dX8_init_246 : decode cX8_init 246 = .ok (.getfield 20, 3) := by decide +kernel
theorem dX8_init_249 : decode cX8_init 249 = .ok (.bipush 11, 2) := by decide +kernel
theorem dX8_init_251 : decode cX8_init 251 = .ok (.new 86, 3) := by decide +kernel
theorem dX8_init_254 : decode cX8_init 254 = .ok (.dup, 1) := by decide +kernel
theorem dX8_init_255 : decode cX8_init 255 = .ok (.iconst 0, 1) := by decide +kernel
theorem dX8_init_256 : decode cX8_init 256 = .ok (.invokespecial 88, 3) := by decide +kernel
theorem dX8_init_259 : decode cX8_init 259 = .ok (.aastore, 1) := by decide +kernel
theorem dX8_init_260 : decode cX8_init 260 = .ok (.aload_n 0, 1) := by decide +kernel
theorem dX8_init_261 : decode cX8_init 261 = .ok (.getfield 20, 3) := by decide +kernel
theorem dX8_init_264 : decode cX8_init 264 = .ok (.bipush 12, 2) := by decide +kernel
theorem dX8_init_266 : decode cX8_init 266 = .ok (.new 92, 3) := by decide +kernel
theorem dX8_init_269 : decode cX8_init 269 = .ok (.dup, 1) := by decide +kernel
theorem dX8_init_270 : decode cX8_init 270 = .ok (.invokespecial 94, 3) := by decide +kernel
theorem dX8_init_273 : decode cX8_init 273 = .ok (.aastore, 1) := by decide +kernel
theorem dX8_init_274 : decode cX8_init 274 = .ok (.aload_n 0, 1) := by decide +kernel
theorem dX8_init_275 : decode cX8_init 275 = .ok (.getfield 20, 3) := by decide +kernel
theorem dX8_init_278 : decode cX8_init 278 = .ok (.bipush 13, 2) := by decide +kernel
theorem dX8_init_280 : decode cX8_init 280 = .ok (.new 95, 3) := by decide +kernel
theorem dX8_init_283 : decode cX8_init 283 = .ok (.dup, 1) := by decide +kernel
theorem dX8_init_284 : decode cX8_init 284 = .ok (.invokespecial 97, 3) := by decide +kernel
theorem dX8_init_287 : decode cX8_init 287 = .ok (.aastore, 1) := by decide +kernel
theorem dX8_init_288 : decode cX8_init 288 = .ok (.aload_n 0, 1) := by decide +kernel
theorem dX8_init_289 : decode cX8_init 289 = .ok (.getfield 20, 3) := by decide +kernel
theorem dX8_init_292 : decode cX8_init 292 = .ok (.bipush 14, 2) := by decide +kernel
theorem dX8_init_294 : decode cX8_init 294 = .ok (.new 98, 3) := by decide +kernel
theorem dX8_init_297 : decode cX8_init 297 = .ok (.dup, 1) := by decide +kernel
theorem dX8_init_298 : decode cX8_init 298 = .ok (.invokespecial 100, 3) := by decide +kernel
theorem dX8_init_301 : decode cX8_init 301 = .ok (.aastore, 1) := by decide +kernel
theorem dX8_init_302 : decode cX8_init 302 = .ok (.aload_n 0, 1) := by decide +kernel
theorem dX8_init_303 : decode cX8_init 303 = .ok (.getfield 20, 3) := by decide +kernel
theorem dX8_init_306 : decode cX8_init 306 = .ok (.bipush 15, 2) := by decide +kernel
theorem dX8_init_308 : decode cX8_init 308 = .ok (.new 101, 3) := by decide +kernel
theorem dX8_init_311 : decode cX8_init 311 = .ok (.dup, 1) := by decide +kernel
theorem dX8_init_312 : decode cX8_init 312 = .ok (.invokespecial 103, 3) := by decide +kernel
theorem dX8_init_315 : decode cX8_init 315 = .ok (.aastore, 1) := by decide +kernel
theorem dX8_init_316 : decode cX8_init 316 = .ok (.aload_n 0, 1) := by decide +kernel
theorem dX8_init_317 : decode cX8_init 317 = .ok (.getfield 20, 3) := by decide +kernel
theorem dX8_init_320 : decode cX8_init 320 = .ok (.bipush 16, 2) := by decide +kernel
theorem dX8_init_322 : decode cX8_init 322 = .ok (.new 104, 3) := by decide +kernel
theorem dX8_init_325 : decode cX8_init 325 = .ok (.dup, 1) := by decide +kernel
theorem dX8_init_326 : decode cX8_init 326 = .ok (.invokespecial 106, 3) := by decide +kernel
theorem dX8_init_329 : decode cX8_init 329 = .ok (.aastore, 1) := by decide +kernel
theorem dX8_init_330 : decode cX8_init 330 = .ok (.aload_n 0, 1) := by decide +kernel
theorem dX8_init_331 : decode cX8_init 331 = .ok (.getfield 20, 3) := by decide +kernel
theorem dX8_init_334 : decode cX8_init 334 = .ok (.bipush 17, 2) := by decide +kernel
theorem dX8_init_336 : decode cX8_init 336 = .ok (.new 60, 3) := by decide +kernel
theorem dX8_init_339 : decode cX8_init 339 = .ok (.dup, 1) := by decide +kernel
theorem dX8_init_340 : decode cX8_init 340 = .ok (.iconst 1, 1) := by decide +kernel
theorem dX8_init_341 : decode cX8_init 341 = .ok (.invokespecial 62, 3) := by decide +kernel
theorem dX8_init_344 : decode cX8_init 344 = .ok (.aastore, 1) := by decide +kernel
theorem dX8_init_345 : decode cX8_init 345 = .ok (.iconst 0, 1) := by decide +kernel
theorem dX8_init_346 : decode cX8_init 346 = .ok (.istore_n 1, 1) := by decide +kernel
theorem dX8_init_347 : decode cX8_init 347 = .ok (.iload_n 1, 1) := by decide +kernel
theorem dX8_init_348 : decode cX8_init 348 = .ok (.bipush 100, 2) := by decide +kernel
theorem dX8_init_350 : decode cX8_init 350 = .ok (.if_icmp .ge 35, 3) := by decide +kernel
theorem dX8_init_353 : decode cX8_init 353 = .ok (.aload_n 0, 1) := by decide +kernel
theorem dX8_init_354 : decode cX8_init 354 = .ok (.getfield 24, 3) := by decide +kernel
theorem dX8_init_357 : decode cX8_init 357 = .ok (.iload_n 1, 1) := by decide +kernel
theorem dX8_init_358 : decode cX8_init 358 = .ok (.new 2, 3) := by decide +kernel
theorem dX8_init_361 : decode cX8_init 361 = .ok (.dup, 1) := by decide +kernel
theorem dX8_init_362 : decode cX8_init 362 = .ok (.invokespecial 31, 3) := by decide +kernel
theorem dX8_init_365 : decode cX8_init 365 = .ok (.aastore, 1) := by decide +kernel
theorem dX8_init_366 : decode cX8_init 366 = .ok (.aload_n 0, 1) := by decide +kernel
theorem dX8_init_367 : decode cX8_init 367 = .ok (.getfield 28, 3) := by decide +kernel
theorem dX8_init_370 : decode cX8_init 370 = .ok (.iload_n 1, 1) := by decide +kernel
theorem dX8_init_371 : decode cX8_init 371 = .ok (.new 2, 3) := by decide +kernel
theorem dX8_init_374 : decode cX8_init 374 = .ok (.dup, 1) := by decide +kernel
theorem dX8_init_375 : decode cX8_init 375 = .ok (.invokespecial 31, 3) := by decide +kernel
theorem dX8_init_378 : decode cX8_init 378 = .ok (.aastore, 1) := by decide +kernel
theorem dX8_init_379 : decode cX8_init 379 = .ok (.iinc 1 1, 3) := by decide +kernel
theorem dX8_init_382 : decode cX8_init 382 = .ok (.goto (-35), 3) := by decide +kernel
theorem dX8_init_385 : decode cX8_init 385 = .ok (.iconst 0, 1) := by decide +kernel
theorem dX8_init_386 : decode cX8_init 386 = .ok (.istore_n 1, 1) := by decide +kernel
theorem dX8_init_387 : decode cX8_init 387 = .ok (.iload_n 1, 1) := by decide +kernel
theorem dX8_init_388 : decode cX8_init 388 = .ok (.sipush 300, 3) := by decide +kernel
theorem dX8_init_391 : decode cX8_init 391 = .ok (.if_icmp .gt 22, 3) := by decide +kernel
theorem dX8_init_394 : decode cX8_init 394 = .ok (.aload_n 0, 1) := by decide +kernel
theorem dX8_init_395 : decode cX8_init 395 = .ok (.getfield 38, 3) := by decide +kernel
theorem dX8_init_398 : decode cX8_init 398 = .ok (.iload_n 1, 1) := by decide +kernel
theorem dX8_init_399 : decode cX8_init 399 = .ok (.new 36, 3) := by decide +kernel
theorem dX8_init_402 : decode cX8_init 402 = .ok (.dup, 1) := by decide +kernel
theorem dX8_init_403 : decode cX8_init 403 = .ok (.invokespecial 107, 3) := by decide +kernel
theorem dX8_init_406 : decode cX8_init 406 = .ok (.aastore, 1) := by decide +kernel
theorem dX8_init_407 : decode cX8_init 407 = .ok (.iinc 1 1, 3) := by decide +kernel
theorem dX8_init_410 : decode cX8_init 410 = .ok (.goto (-23), 3) := by decide +kernel
theorem dX8_init_413 : decode cX8_init 413 = .ok (.return_, 1) := by decide +kernel
abbrev cX8_axiom : ByteArray := prog_25_method_5_code
def yX8_axiom : MethodName := ⟨RX8, "axiom", "(III)I"⟩
theorem dX8_axiom_0 : decode cX8_axiom 0 = .ok (.iload_n 1, 1) := by decide +kernel
theorem dX8_axiom_1 : decode cX8_axiom 1 = .ok (.iconst 1, 1) := by decide +kernel
theorem dX8_axiom_2 : decode cX8_axiom 2 = .ok (.if_icmp .lt 30, 3) := by decide +kernel
theorem dX8_axiom_5 : decode cX8_axiom 5 = .ok (.iload_n 1, 1) := by decide +kernel
theorem dX8_axiom_6 : decode cX8_axiom 6 = .ok (.bipush 10, 2) := by decide +kernel
theorem dX8_axiom_8 : decode cX8_axiom 8 = .ok (.if_icmp .gt 24, 3) := by decide +kernel
theorem dX8_axiom_11 : decode cX8_axiom 11 = .ok (.iload_n 2, 1) := by decide +kernel
theorem dX8_axiom_12 : decode cX8_axiom 12 = .ok (.invokestatic 108, 3) := by decide +kernel
theorem dX8_axiom_15 : decode cX8_axiom 15 = .ok (.ifCond .eq 17, 3) := by decide +kernel
theorem dX8_axiom_18 : decode cX8_axiom 18 = .ok (.iload_n 1, 1) := by decide +kernel
theorem dX8_axiom_19 : decode cX8_axiom 19 = .ok (.invokestatic 112, 3) := by decide +kernel
theorem dX8_axiom_22 : decode cX8_axiom 22 = .ok (.ifCond .ne 13, 3) := by decide +kernel
theorem dX8_axiom_25 : decode cX8_axiom 25 = .ok (.iload_n 3, 1) := by decide +kernel
theorem dX8_axiom_26 : decode cX8_axiom 26 = .ok (.invokestatic 108, 3) := by decide +kernel
theorem dX8_axiom_29 : decode cX8_axiom 29 = .ok (.ifCond .ne 6, 3) := by decide +kernel
theorem dX8_axiom_32 : decode cX8_axiom 32 = .ok (.bipush (-2), 2) := by decide +kernel
theorem dX8_axiom_34 : decode cX8_axiom 34 = .ok (.ireturn, 1) := by decide +kernel
theorem dX8_axiom_35 : decode cX8_axiom 35 = .ok (.aload_n 0, 1) := by decide +kernel
theorem dX8_axiom_36 : decode cX8_axiom 36 = .ok (.getfield 115, 3) := by decide +kernel
theorem dX8_axiom_39 : decode cX8_axiom 39 = .ok (.bipush 100, 2) := by decide +kernel
theorem dX8_axiom_41 : decode cX8_axiom 41 = .ok (.if_icmp .ne 6, 3) := by decide +kernel
theorem dX8_axiom_44 : decode cX8_axiom 44 = .ok (.bipush (-4), 2) := by decide +kernel
theorem dX8_axiom_46 : decode cX8_axiom 46 = .ok (.ireturn, 1) := by decide +kernel
theorem dX8_axiom_47 : decode cX8_axiom 47 = .ok (.aload_n 0, 1) := by decide +kernel
theorem dX8_axiom_48 : decode cX8_axiom 48 = .ok (.getfield 24, 3) := by decide +kernel
theorem dX8_axiom_51 : decode cX8_axiom 51 = .ok (.aload_n 0, 1) := by decide +kernel
theorem dX8_axiom_52 : decode cX8_axiom 52 = .ok (.getfield 115, 3) := by decide +kernel
theorem dX8_axiom_55 : decode cX8_axiom 55 = .ok (.aaload, 1) := by decide +kernel
theorem dX8_axiom_56 : decode cX8_axiom 56 = .ok (.iload_n 1, 1) := by decide +kernel
theorem dX8_axiom_57 : decode cX8_axiom 57 = .ok (.iload_n 2, 1) := by decide +kernel
theorem dX8_axiom_58 : decode cX8_axiom 58 = .ok (.iload_n 1, 1) := by decide +kernel
theorem dX8_axiom_59 : decode cX8_axiom 59 = .ok (.invokestatic 112, 3) := by decide +kernel
theorem dX8_axiom_62 : decode cX8_axiom 62 = .ok (.ifCond .eq 7, 3) := by decide +kernel
theorem dX8_axiom_65 : decode cX8_axiom 65 = .ok (.iconst 0, 1) := by decide +kernel
theorem dX8_axiom_66 : decode cX8_axiom 66 = .ok (.goto 4, 3) := by decide +kernel
theorem dX8_axiom_69 : decode cX8_axiom 69 = .ok (.iload_n 3, 1) := by decide +kernel
theorem dX8_axiom_70 : decode cX8_axiom 70 = .ok (.iconst 0, 1) := by decide +kernel
theorem dX8_axiom_71 : decode cX8_axiom 71 = .ok (.invokevirtual 118, 3) := by decide +kernel
theorem dX8_axiom_74 : decode cX8_axiom 74 = .ok (.aload_n 0, 1) := by decide +kernel
theorem dX8_axiom_75 : decode cX8_axiom 75 = .ok (.dup, 1) := by decide +kernel
theorem dX8_axiom_76 : decode cX8_axiom 76 = .ok (.getfield 115, 3) := by decide +kernel
theorem dX8_axiom_79 : decode cX8_axiom 79 = .ok (.iconst 1, 1) := by decide +kernel
theorem dX8_axiom_80 : decode cX8_axiom 80 = .ok (.iadd, 1) := by decide +kernel
theorem dX8_axiom_81 : decode cX8_axiom 81 = .ok (.putfield 115, 3) := by decide +kernel
theorem dX8_axiom_84 : decode cX8_axiom 84 = .ok (.aload_n 0, 1) := by decide +kernel
theorem dX8_axiom_85 : decode cX8_axiom 85 = .ok (.getfield 115, 3) := by decide +kernel
theorem dX8_axiom_88 : decode cX8_axiom 88 = .ok (.ireturn, 1) := by decide +kernel
abbrev cX8_isTerm : ByteArray := prog_25_method_3_code
def yX8_isTerm : MethodName := ⟨RX8, "isTerm", "(I)Z"⟩
theorem dX8_isTerm_0 : decode cX8_isTerm 0 = .ok (.iload_n 0, 1) := by decide +kernel
theorem dX8_isTerm_1 : decode cX8_isTerm 1 = .ok (.ifCond .lt 14, 3) := by decide +kernel
theorem dX8_isTerm_4 : decode cX8_isTerm 4 = .ok (.iload_n 0, 1) := by decide +kernel
theorem dX8_isTerm_5 : decode cX8_isTerm 5 = .ok (.sipush 1000, 3) := by decide +kernel
theorem dX8_isTerm_8 : decode cX8_isTerm 8 = .ok (.if_icmp .ge 7, 3) := by decide +kernel
theorem dX8_isTerm_11 : decode cX8_isTerm 11 = .ok (.iconst 1, 1) := by decide +kernel
theorem dX8_isTerm_12 : decode cX8_isTerm 12 = .ok (.goto 4, 3) := by decide +kernel
theorem dX8_isTerm_15 : decode cX8_isTerm 15 = .ok (.iconst 0, 1) := by decide +kernel
theorem dX8_isTerm_16 : decode cX8_isTerm 16 = .ok (.ireturn, 1) := by decide +kernel
abbrev cX8_isAlone : ByteArray := prog_25_method_4_code
def yX8_isAlone : MethodName := ⟨RX8, "isAlone", "(I)Z"⟩
theorem dX8_isAlone_0 : decode cX8_isAlone 0 = .ok (.iload_n 0, 1) := by decide +kernel
theorem dX8_isAlone_1 : decode cX8_isAlone 1 = .ok (.bipush 6, 2) := by decide +kernel
theorem dX8_isAlone_3 : decode cX8_isAlone 3 = .ok (.if_icmp .eq 15, 3) := by decide +kernel
theorem dX8_isAlone_6 : decode cX8_isAlone 6 = .ok (.iload_n 0, 1) := by decide +kernel
theorem dX8_isAlone_7 : decode cX8_isAlone 7 = .ok (.bipush 7, 2) := by decide +kernel
theorem dX8_isAlone_9 : decode cX8_isAlone 9 = .ok (.if_icmp .eq 9, 3) := by decide +kernel
theorem dX8_isAlone_12 : decode cX8_isAlone 12 = .ok (.iload_n 0, 1) := by decide +kernel
theorem dX8_isAlone_13 : decode cX8_isAlone 13 = .ok (.bipush 9, 2) := by decide +kernel
theorem dX8_isAlone_15 : decode cX8_isAlone 15 = .ok (.if_icmp .ne 7, 3) := by decide +kernel
theorem dX8_isAlone_18 : decode cX8_isAlone 18 = .ok (.iconst 1, 1) := by decide +kernel
theorem dX8_isAlone_19 : decode cX8_isAlone 19 = .ok (.goto 4, 3) := by decide +kernel
theorem dX8_isAlone_22 : decode cX8_isAlone 22 = .ok (.iconst 0, 1) := by decide +kernel
theorem dX8_isAlone_23 : decode cX8_isAlone 23 = .ok (.ireturn, 1) := by decide +kernel
abbrev cX8_triple : ByteArray := prog_25_method_6_code
def yX8_triple : MethodName := ⟨RX8, "triple", "(III)I"⟩
theorem dX8_triple_0 : decode cX8_triple 0 = .ok (.iload_n 1, 1) := by decide +kernel
theorem dX8_triple_1 : decode cX8_triple 1 = .ok (.invokestatic 108, 3) := by decide +kernel
theorem dX8_triple_4 : decode cX8_triple 4 = .ok (.ifCond .eq 17, 3) := by decide +kernel
theorem dX8_triple_7 : decode cX8_triple 7 = .ok (.iload_n 2, 1) := by decide +kernel
theorem dX8_triple_8 : decode cX8_triple 8 = .ok (.invokestatic 108, 3) := by decide +kernel
theorem dX8_triple_11 : decode cX8_triple 11 = .ok (.ifCond .eq 10, 3) := by decide +kernel
theorem dX8_triple_14 : decode cX8_triple 14 = .ok (.iload_n 3, 1) := by decide +kernel
theorem dX8_triple_15 : decode cX8_triple 15 = .ok (.invokestatic 108, 3) := by decide +kernel
theorem dX8_triple_18 : decode cX8_triple 18 = .ok (.ifCond .ne 6, 3) := by decide +kernel
theorem dX8_triple_21 : decode cX8_triple 21 = .ok (.bipush (-2), 2) := by decide +kernel
theorem dX8_triple_23 : decode cX8_triple 23 = .ok (.ireturn, 1) := by decide +kernel
theorem dX8_triple_24 : decode cX8_triple 24 = .ok (.aload_n 0, 1) := by decide +kernel
theorem dX8_triple_25 : decode cX8_triple 25 = .ok (.getfield 32, 3) := by decide +kernel
theorem dX8_triple_28 : decode cX8_triple 28 = .ok (.bipush 11, 2) := by decide +kernel
theorem dX8_triple_30 : decode cX8_triple 30 = .ok (.iload_n 1, 1) := by decide +kernel
theorem dX8_triple_31 : decode cX8_triple 31 = .ok (.iload_n 2, 1) := by decide +kernel
theorem dX8_triple_32 : decode cX8_triple 32 = .ok (.iload_n 3, 1) := by decide +kernel
theorem dX8_triple_33 : decode cX8_triple 33 = .ok (.invokevirtual 118, 3) := by decide +kernel
theorem dX8_triple_36 : decode cX8_triple 36 = .ok (.iconst 0, 1) := by decide +kernel
theorem dX8_triple_37 : decode cX8_triple 37 = .ok (.istore 4, 2) := by decide +kernel
theorem dX8_triple_39 : decode cX8_triple 39 = .ok (.iload 4, 2) := by decide +kernel
theorem dX8_triple_41 : decode cX8_triple 41 = .ok (.aload_n 0, 1) := by decide +kernel
theorem dX8_triple_42 : decode cX8_triple 42 = .ok (.getfield 122, 3) := by decide +kernel
theorem dX8_triple_45 : decode cX8_triple 45 = .ok (.if_icmp .ge 31, 3) := by decide +kernel
theorem dX8_triple_48 : decode cX8_triple 48 = .ok (.aload_n 0, 1) := by decide +kernel
theorem dX8_triple_49 : decode cX8_triple 49 = .ok (.getfield 28, 3) := by decide +kernel
theorem dX8_triple_52 : decode cX8_triple 52 = .ok (.iload 4, 2) := by decide +kernel
theorem dX8_triple_54 : decode cX8_triple 54 = .ok (.aaload, 1) := by decide +kernel
theorem dX8_triple_55 : decode cX8_triple 55 = .ok (.aload_n 0, 1) := by decide +kernel
theorem dX8_triple_56 : decode cX8_triple 56 = .ok (.getfield 32, 3) := by decide +kernel
theorem dX8_triple_59 : decode cX8_triple 59 = .ok (.invokevirtual 125, 3) := by decide +kernel
theorem dX8_triple_62 : decode cX8_triple 62 = .ok (.ifCond .eq 8, 3) := by decide +kernel
theorem dX8_triple_65 : decode cX8_triple 65 = .ok (.iload 4, 2) := by decide +kernel
theorem dX8_triple_67 : decode cX8_triple 67 = .ok (.iconst 1, 1) := by decide +kernel
theorem dX8_triple_68 : decode cX8_triple 68 = .ok (.iadd, 1) := by decide +kernel
theorem dX8_triple_69 : decode cX8_triple 69 = .ok (.ireturn, 1) := by decide +kernel
theorem dX8_triple_70 : decode cX8_triple 70 = .ok (.iinc 4 1, 3) := by decide +kernel
theorem dX8_triple_73 : decode cX8_triple 73 = .ok (.goto (-34), 3) := by decide +kernel
theorem dX8_triple_76 : decode cX8_triple 76 = .ok (.aload_n 0, 1) := by decide +kernel
theorem dX8_triple_77 : decode cX8_triple 77 = .ok (.getfield 122, 3) := by decide +kernel
theorem dX8_triple_80 : decode cX8_triple 80 = .ok (.bipush 100, 2) := by decide +kernel
theorem dX8_triple_82 : decode cX8_triple 82 = .ok (.if_icmp .ne 6, 3) := by decide +kernel
theorem dX8_triple_85 : decode cX8_triple 85 = .ok (.bipush (-4), 2) := by decide +kernel
theorem dX8_triple_87 : decode cX8_triple 87 = .ok (.ireturn, 1) := by decide +kernel
theorem dX8_triple_88 : decode cX8_triple 88 = .ok (.aload_n 0, 1) := by decide +kernel
theorem dX8_triple_89 : decode cX8_triple 89 = .ok (.getfield 28, 3) := by decide +kernel
theorem dX8_triple_92 : decode cX8_triple 92 = .ok (.aload_n 0, 1) := by decide +kernel
theorem dX8_triple_93 : decode cX8_triple 93 = .ok (.getfield 122, 3) := by decide +kernel
theorem dX8_triple_96 : decode cX8_triple 96 = .ok (.aaload, 1) := by decide +kernel
theorem dX8_triple_97 : decode cX8_triple 97 = .ok (.aload_n 0, 1) := by decide +kernel
theorem dX8_triple_98 : decode cX8_triple 98 = .ok (.getfield 32, 3) := by decide +kernel
theorem dX8_triple_101 : decode cX8_triple 101 = .ok (.invokevirtual 129, 3) := by decide +kernel
theorem dX8_triple_104 : decode cX8_triple 104 = .ok (.aload_n 0, 1) := by decide +kernel
theorem dX8_triple_105 : decode cX8_triple 105 = .ok (.dup, 1) := by decide +kernel
theorem dX8_triple_106 : decode cX8_triple 106 = .ok (.getfield 122, 3) := by decide +kernel
theorem dX8_triple_109 : decode cX8_triple 109 = .ok (.iconst 1, 1) := by decide +kernel
theorem dX8_triple_110 : decode cX8_triple 110 = .ok (.iadd, 1) := by decide +kernel
theorem dX8_triple_111 : decode cX8_triple 111 = .ok (.putfield 122, 3) := by decide +kernel
theorem dX8_triple_114 : decode cX8_triple 114 = .ok (.aload_n 0, 1) := by decide +kernel
theorem dX8_triple_115 : decode cX8_triple 115 = .ok (.getfield 122, 3) := by decide +kernel
theorem dX8_triple_118 : decode cX8_triple 118 = .ok (.ireturn, 1) := by decide +kernel
abbrev cX8_row : ByteArray := prog_25_method_9_code
def yX8_row : MethodName := ⟨RX8, "row", "(III)I"⟩
theorem dX8_row_0 : decode cX8_row 0 = .ok (.iload_n 1, 1) := by decide +kernel
theorem dX8_row_1 : decode cX8_row 1 = .ok (.ifCond .lt 54, 3) := by decide +kernel
theorem dX8_row_4 : decode cX8_row 4 = .ok (.iload_n 1, 1) := by decide +kernel
theorem dX8_row_5 : decode cX8_row 5 = .ok (.bipush 18, 2) := by decide +kernel
theorem dX8_row_7 : decode cX8_row 7 = .ok (.if_icmp .ge 48, 3) := by decide +kernel
theorem dX8_row_10 : decode cX8_row 10 = .ok (.aload_n 0, 1) := by decide +kernel
theorem dX8_row_11 : decode cX8_row 11 = .ok (.iload_n 1, 1) := by decide +kernel
theorem dX8_row_12 : decode cX8_row 12 = .ok (.iload_n 2, 1) := by decide +kernel
theorem dX8_row_13 : decode cX8_row 13 = .ok (.invokevirtual 136, 3) := by decide +kernel
theorem dX8_row_16 : decode cX8_row 16 = .ok (.ifCond .eq 39, 3) := by decide +kernel
theorem dX8_row_19 : decode cX8_row 19 = .ok (.iload_n 3, 1) := by decide +kernel
theorem dX8_row_20 : decode cX8_row 20 = .ok (.ifCond .eq 25, 3) := by decide +kernel
theorem dX8_row_23 : decode cX8_row 23 = .ok (.aload_n 0, 1) := by decide +kernel
theorem dX8_row_24 : decode cX8_row 24 = .ok (.iload_n 3, 1) := by decide +kernel
theorem dX8_row_25 : decode cX8_row 25 = .ok (.invokevirtual 140, 3) := by decide +kernel
theorem dX8_row_28 : decode cX8_row 28 = .ok (.ifCond .eq 27, 3) := by decide +kernel
theorem dX8_row_31 : decode cX8_row 31 = .ok (.aload_n 0, 1) := by decide +kernel
theorem dX8_row_32 : decode cX8_row 32 = .ok (.getfield 20, 3) := by decide +kernel
theorem dX8_row_35 : decode cX8_row 35 = .ok (.iload_n 1, 1) := by decide +kernel
theorem dX8_row_36 : decode cX8_row 36 = .ok (.aaload, 1) := by decide +kernel
theorem dX8_row_37 : decode cX8_row 37 = .ok (.invokeinterface 143 1, 5) := by decide +kernel
theorem dX8_row_42 : decode cX8_row 42 = .ok (.ifCond .eq 13, 3) := by decide +kernel
theorem dX8_row_45 : decode cX8_row 45 = .ok (.aload_n 0, 1) := by decide +kernel
theorem dX8_row_46 : decode cX8_row 46 = .ok (.getfield 133, 3) := by decide +kernel
theorem dX8_row_49 : decode cX8_row 49 = .ok (.sipush 300, 3) := by decide +kernel
theorem dX8_row_52 : decode cX8_row 52 = .ok (.if_icmp .ne 5, 3) := by decide +kernel
theorem dX8_row_55 : decode cX8_row 55 = .ok (.iconst 0, 1) := by decide +kernel
theorem dX8_row_56 : decode cX8_row 56 = .ok (.ireturn, 1) := by decide +kernel
theorem dX8_row_57 : decode cX8_row 57 = .ok (.aload_n 0, 1) := by decide +kernel
theorem dX8_row_58 : decode cX8_row 58 = .ok (.dup, 1) := by decide +kernel
theorem dX8_row_59 : decode cX8_row 59 = .ok (.getfield 133, 3) := by decide +kernel
theorem dX8_row_62 : decode cX8_row 62 = .ok (.iconst 1, 1) := by decide +kernel
theorem dX8_row_63 : decode cX8_row 63 = .ok (.iadd, 1) := by decide +kernel
theorem dX8_row_64 : decode cX8_row 64 = .ok (.putfield 133, 3) := by decide +kernel
theorem dX8_row_67 : decode cX8_row 67 = .ok (.aload_n 0, 1) := by decide +kernel
theorem dX8_row_68 : decode cX8_row 68 = .ok (.getfield 38, 3) := by decide +kernel
theorem dX8_row_71 : decode cX8_row 71 = .ok (.aload_n 0, 1) := by decide +kernel
theorem dX8_row_72 : decode cX8_row 72 = .ok (.getfield 133, 3) := by decide +kernel
theorem dX8_row_75 : decode cX8_row 75 = .ok (.aaload, 1) := by decide +kernel
theorem dX8_row_76 : decode cX8_row 76 = .ok (.astore 4, 2) := by decide +kernel
theorem dX8_row_78 : decode cX8_row 78 = .ok (.aload 4, 2) := by decide +kernel
theorem dX8_row_80 : decode cX8_row 80 = .ok (.iload_n 1, 1) := by decide +kernel
theorem dX8_row_81 : decode cX8_row 81 = .ok (.iload_n 2, 1) := by decide +kernel
theorem dX8_row_82 : decode cX8_row 82 = .ok (.invokevirtual 147, 3) := by decide +kernel
theorem dX8_row_85 : decode cX8_row 85 = .ok (.iload_n 3, 1) := by decide +kernel
theorem dX8_row_86 : decode cX8_row 86 = .ok (.ifCond .eq 17, 3) := by decide +kernel
theorem dX8_row_89 : decode cX8_row 89 = .ok (.aload 4, 2) := by decide +kernel
theorem dX8_row_91 : decode cX8_row 91 = .ok (.getfield 150, 3) := by decide +kernel
theorem dX8_row_94 : decode cX8_row 94 = .ok (.iconst 0, 1) := by decide +kernel
theorem dX8_row_95 : decode cX8_row 95 = .ok (.iload_n 3, 1) := by decide +kernel
theorem dX8_row_96 : decode cX8_row 96 = .ok (.iastore, 1) := by decide +kernel
theorem dX8_row_97 : decode cX8_row 97 = .ok (.aload 4, 2) := by decide +kernel
theorem dX8_row_99 : decode cX8_row 99 = .ok (.iconst 1, 1) := by decide +kernel
theorem dX8_row_100 : decode cX8_row 100 = .ok (.putfield 152, 3) := by decide +kernel
theorem dX8_row_103 : decode cX8_row 103 = .ok (.aload_n 0, 1) := by decide +kernel
theorem dX8_row_104 : decode cX8_row 104 = .ok (.getfield 133, 3) := by decide +kernel
theorem dX8_row_107 : decode cX8_row 107 = .ok (.ireturn, 1) := by decide +kernel
abbrev cX8_isInstance : ByteArray := prog_25_method_8_code
def yX8_isInstance : MethodName := ⟨RX8, "isInstance", "(II)Z"⟩
theorem dX8_isInstance_0 : decode cX8_isInstance 0 = .ok (.iload_n 1, 1) := by decide +kernel
theorem dX8_isInstance_1 : decode cX8_isInstance 1 = .ok (.lookupswitch 86 #[(0, 43), (1, 62), (2, 81), (17, 62)], 43) := by decide +kernel
theorem dX8_isInstance_44 : decode cX8_isInstance 44 = .ok (.iload_n 2, 1) := by decide +kernel
theorem dX8_isInstance_45 : decode cX8_isInstance 45 = .ok (.iconst 1, 1) := by decide +kernel
theorem dX8_isInstance_46 : decode cX8_isInstance 46 = .ok (.if_icmp .lt 15, 3) := by decide +kernel
theorem dX8_isInstance_49 : decode cX8_isInstance 49 = .ok (.iload_n 2, 1) := by decide +kernel
theorem dX8_isInstance_50 : decode cX8_isInstance 50 = .ok (.aload_n 0, 1) := by decide +kernel
theorem dX8_isInstance_51 : decode cX8_isInstance 51 = .ok (.getfield 115, 3) := by decide +kernel
theorem dX8_isInstance_54 : decode cX8_isInstance 54 = .ok (.if_icmp .gt 7, 3) := by decide +kernel
theorem dX8_isInstance_57 : decode cX8_isInstance 57 = .ok (.iconst 1, 1) := by decide +kernel
theorem dX8_isInstance_58 : decode cX8_isInstance 58 = .ok (.goto 4, 3) := by decide +kernel
theorem dX8_isInstance_61 : decode cX8_isInstance 61 = .ok (.iconst 0, 1) := by decide +kernel
theorem dX8_isInstance_62 : decode cX8_isInstance 62 = .ok (.ireturn, 1) := by decide +kernel
theorem dX8_isInstance_63 : decode cX8_isInstance 63 = .ok (.iload_n 2, 1) := by decide +kernel
theorem dX8_isInstance_64 : decode cX8_isInstance 64 = .ok (.iconst 1, 1) := by decide +kernel
theorem dX8_isInstance_65 : decode cX8_isInstance 65 = .ok (.if_icmp .lt 15, 3) := by decide +kernel
theorem dX8_isInstance_68 : decode cX8_isInstance 68 = .ok (.iload_n 2, 1) := by decide +kernel
theorem dX8_isInstance_69 : decode cX8_isInstance 69 = .ok (.aload_n 0, 1) := by decide +kernel
theorem dX8_isInstance_70 : decode cX8_isInstance 70 = .ok (.getfield 122, 3) := by decide +kernel
theorem dX8_isInstance_73 : decode cX8_isInstance 73 = .ok (.if_icmp .gt 7, 3) := by decide +kernel
theorem dX8_isInstance_76 : decode cX8_isInstance 76 = .ok (.iconst 1, 1) := by decide +kernel
theorem dX8_isInstance_77 : decode cX8_isInstance 77 = .ok (.goto 4, 3) := by decide +kernel
theorem dX8_isInstance_80 : decode cX8_isInstance 80 = .ok (.iconst 0, 1) := by decide +kernel
theorem dX8_isInstance_81 : decode cX8_isInstance 81 = .ok (.ireturn, 1) := by decide +kernel
theorem dX8_isInstance_82 : decode cX8_isInstance 82 = .ok (.iload_n 2, 1) := by decide +kernel
theorem dX8_isInstance_83 : decode cX8_isInstance 83 = .ok (.invokestatic 108, 3) := by decide +kernel
theorem dX8_isInstance_86 : decode cX8_isInstance 86 = .ok (.ireturn, 1) := by decide +kernel
theorem dX8_isInstance_87 : decode cX8_isInstance 87 = .ok (.iconst 1, 1) := by decide +kernel
theorem dX8_isInstance_88 : decode cX8_isInstance 88 = .ok (.ireturn, 1) := by decide +kernel
abbrev cX8_isRow : ByteArray := prog_25_method_7_code
def yX8_isRow : MethodName := ⟨RX8, "isRow", "(I)Z"⟩
theorem dX8_isRow_0 : decode cX8_isRow 0 = .ok (.iload_n 1, 1) := by decide +kernel
theorem dX8_isRow_1 : decode cX8_isRow 1 = .ok (.iconst 1, 1) := by decide +kernel
theorem dX8_isRow_2 : decode cX8_isRow 2 = .ok (.if_icmp .lt 15, 3) := by decide +kernel
theorem dX8_isRow_5 : decode cX8_isRow 5 = .ok (.iload_n 1, 1) := by decide +kernel
theorem dX8_isRow_6 : decode cX8_isRow 6 = .ok (.aload_n 0, 1) := by decide +kernel
theorem dX8_isRow_7 : decode cX8_isRow 7 = .ok (.getfield 133, 3) := by decide +kernel
theorem dX8_isRow_10 : decode cX8_isRow 10 = .ok (.if_icmp .gt 7, 3) := by decide +kernel
theorem dX8_isRow_13 : decode cX8_isRow 13 = .ok (.iconst 1, 1) := by decide +kernel
theorem dX8_isRow_14 : decode cX8_isRow 14 = .ok (.goto 4, 3) := by decide +kernel
theorem dX8_isRow_17 : decode cX8_isRow 17 = .ok (.iconst 0, 1) := by decide +kernel
theorem dX8_isRow_18 : decode cX8_isRow 18 = .ok (.ireturn, 1) := by decide +kernel
abbrev cX8_premise : ByteArray := prog_25_method_10_code
def yX8_premise : MethodName := ⟨RX8, "premise", "(II)I"⟩
theorem dX8_premise_0 : decode cX8_premise 0 = .ok (.aload_n 0, 1) := by decide +kernel
theorem dX8_premise_1 : decode cX8_premise 1 = .ok (.iload_n 1, 1) := by decide +kernel
theorem dX8_premise_2 : decode cX8_premise 2 = .ok (.invokevirtual 140, 3) := by decide +kernel
theorem dX8_premise_5 : decode cX8_premise 5 = .ok (.ifCond .eq 11, 3) := by decide +kernel
theorem dX8_premise_8 : decode cX8_premise 8 = .ok (.aload_n 0, 1) := by decide +kernel
theorem dX8_premise_9 : decode cX8_premise 9 = .ok (.iload_n 2, 1) := by decide +kernel
theorem dX8_premise_10 : decode cX8_premise 10 = .ok (.invokevirtual 140, 3) := by decide +kernel
theorem dX8_premise_13 : decode cX8_premise 13 = .ok (.ifCond .ne 5, 3) := by decide +kernel
theorem dX8_premise_16 : decode cX8_premise 16 = .ok (.iconst (-1), 1) := by decide +kernel
theorem dX8_premise_17 : decode cX8_premise 17 = .ok (.ireturn, 1) := by decide +kernel
theorem dX8_premise_18 : decode cX8_premise 18 = .ok (.aload_n 0, 1) := by decide +kernel
theorem dX8_premise_19 : decode cX8_premise 19 = .ok (.getfield 38, 3) := by decide +kernel
theorem dX8_premise_22 : decode cX8_premise 22 = .ok (.iload_n 1, 1) := by decide +kernel
theorem dX8_premise_23 : decode cX8_premise 23 = .ok (.aaload, 1) := by decide +kernel
theorem dX8_premise_24 : decode cX8_premise 24 = .ok (.astore_n 3, 1) := by decide +kernel
theorem dX8_premise_25 : decode cX8_premise 25 = .ok (.iload_n 2, 1) := by decide +kernel
theorem dX8_premise_26 : decode cX8_premise 26 = .ok (.iload_n 1, 1) := by decide +kernel
theorem dX8_premise_27 : decode cX8_premise 27 = .ok (.if_icmp .ge 24, 3) := by decide +kernel
theorem dX8_premise_30 : decode cX8_premise 30 = .ok (.aload_n 3, 1) := by decide +kernel
theorem dX8_premise_31 : decode cX8_premise 31 = .ok (.getfield 152, 3) := by decide +kernel
theorem dX8_premise_34 : decode cX8_premise 34 = .ok (.aload_n 0, 1) := by decide +kernel
theorem dX8_premise_35 : decode cX8_premise 35 = .ok (.getfield 20, 3) := by decide +kernel
theorem dX8_premise_38 : decode cX8_premise 38 = .ok (.aload_n 3, 1) := by decide +kernel
theorem dX8_premise_39 : decode cX8_premise 39 = .ok (.getfield 155, 3) := by decide +kernel
theorem dX8_premise_42 : decode cX8_premise 42 = .ok (.aaload, 1) := by decide +kernel
theorem dX8_premise_43 : decode cX8_premise 43 = .ok (.invokeinterface 143 1, 5) := by decide +kernel
theorem dX8_premise_48 : decode cX8_premise 48 = .ok (.if_icmp .ne 6, 3) := by decide +kernel
theorem dX8_premise_51 : decode cX8_premise 51 = .ok (.bipush (-3), 2) := by decide +kernel
theorem dX8_premise_53 : decode cX8_premise 53 = .ok (.ireturn, 1) := by decide +kernel
theorem dX8_premise_54 : decode cX8_premise 54 = .ok (.aload_n 3, 1) := by decide +kernel
theorem dX8_premise_55 : decode cX8_premise 55 = .ok (.getfield 150, 3) := by decide +kernel
theorem dX8_premise_58 : decode cX8_premise 58 = .ok (.aload_n 3, 1) := by decide +kernel
theorem dX8_premise_59 : decode cX8_premise 59 = .ok (.getfield 152, 3) := by decide +kernel
theorem dX8_premise_62 : decode cX8_premise 62 = .ok (.iload_n 2, 1) := by decide +kernel
theorem dX8_premise_63 : decode cX8_premise 63 = .ok (.iastore, 1) := by decide +kernel
theorem dX8_premise_64 : decode cX8_premise 64 = .ok (.aload_n 3, 1) := by decide +kernel
theorem dX8_premise_65 : decode cX8_premise 65 = .ok (.dup, 1) := by decide +kernel
theorem dX8_premise_66 : decode cX8_premise 66 = .ok (.getfield 152, 3) := by decide +kernel
theorem dX8_premise_69 : decode cX8_premise 69 = .ok (.iconst 1, 1) := by decide +kernel
theorem dX8_premise_70 : decode cX8_premise 70 = .ok (.iadd, 1) := by decide +kernel
theorem dX8_premise_71 : decode cX8_premise 71 = .ok (.putfield 152, 3) := by decide +kernel
theorem dX8_premise_74 : decode cX8_premise 74 = .ok (.aload_n 0, 1) := by decide +kernel
theorem dX8_premise_75 : decode cX8_premise 75 = .ok (.aload_n 0, 1) := by decide +kernel
theorem dX8_premise_76 : decode cX8_premise 76 = .ok (.getfield 158, 3) := by decide +kernel
theorem dX8_premise_79 : decode cX8_premise 79 = .ok (.iload_n 1, 1) := by decide +kernel
theorem dX8_premise_80 : decode cX8_premise 80 = .ok (.iconst 1, 1) := by decide +kernel
theorem dX8_premise_81 : decode cX8_premise 81 = .ok (.isub, 1) := by decide +kernel
theorem dX8_premise_82 : decode cX8_premise 82 = .ok (.invokestatic 161, 3) := by decide +kernel
theorem dX8_premise_85 : decode cX8_premise 85 = .ok (.putfield 158, 3) := by decide +kernel
theorem dX8_premise_88 : decode cX8_premise 88 = .ok (.aload_n 3, 1) := by decide +kernel
theorem dX8_premise_89 : decode cX8_premise 89 = .ok (.getfield 152, 3) := by decide +kernel
theorem dX8_premise_92 : decode cX8_premise 92 = .ok (.ireturn, 1) := by decide +kernel
abbrev cX8_check : ByteArray := prog_25_method_14_code
def yX8_check : MethodName := ⟨RX8, "check", "(I)I"⟩
theorem dX8_check_0 : decode cX8_check 0 = .ok (.aload_n 0, 1) := by decide +kernel
theorem dX8_check_1 : decode cX8_check 1 = .ok (.iload_n 1, 1) := by decide +kernel
theorem dX8_check_2 : decode cX8_check 2 = .ok (.invokevirtual 140, 3) := by decide +kernel
theorem dX8_check_5 : decode cX8_check 5 = .ok (.ifCond .ne 5, 3) := by decide +kernel
theorem dX8_check_8 : decode cX8_check 8 = .ok (.iconst (-1), 1) := by decide +kernel
theorem dX8_check_9 : decode cX8_check 9 = .ok (.ireturn, 1) := by decide +kernel
theorem dX8_check_10 : decode cX8_check 10 = .ok (.aload_n 0, 1) := by decide +kernel
theorem dX8_check_11 : decode cX8_check 11 = .ok (.iload_n 1, 1) := by decide +kernel
theorem dX8_check_12 : decode cX8_check 12 = .ok (.invokevirtual 189, 3) := by decide +kernel
theorem dX8_check_15 : decode cX8_check 15 = .ok (.aload_n 0, 1) := by decide +kernel
theorem dX8_check_16 : decode cX8_check 16 = .ok (.iload_n 1, 1) := by decide +kernel
theorem dX8_check_17 : decode cX8_check 17 = .ok (.invokevirtual 193, 3) := by decide +kernel
theorem dX8_check_20 : decode cX8_check 20 = .ok (.pop, 1) := by decide +kernel
theorem dX8_check_21 : decode cX8_check 21 = .ok (.aload_n 0, 1) := by decide +kernel
theorem dX8_check_22 : decode cX8_check 22 = .ok (.iconst 0, 1) := by decide +kernel
theorem dX8_check_23 : decode cX8_check 23 = .ok (.putfield 197, 3) := by decide +kernel
theorem dX8_check_26 : decode cX8_check 26 = .ok (.iload_n 1, 1) := by decide +kernel
theorem dX8_check_27 : decode cX8_check 27 = .ok (.istore_n 2, 1) := by decide +kernel
theorem dX8_check_28 : decode cX8_check 28 = .ok (.iload_n 2, 1) := by decide +kernel
theorem dX8_check_29 : decode cX8_check 29 = .ok (.ifCond .le 48, 3) := by decide +kernel
theorem dX8_check_32 : decode cX8_check 32 = .ok (.aload_n 0, 1) := by decide +kernel
theorem dX8_check_33 : decode cX8_check 33 = .ok (.getfield 45, 3) := by decide +kernel
theorem dX8_check_36 : decode cX8_check 36 = .ok (.iload_n 2, 1) := by decide +kernel
theorem dX8_check_37 : decode cX8_check 37 = .ok (.baload, 1) := by decide +kernel
theorem dX8_check_38 : decode cX8_check 38 = .ok (.ifCond .eq 33, 3) := by decide +kernel
theorem dX8_check_41 : decode cX8_check 41 = .ok (.aload_n 0, 1) := by decide +kernel
theorem dX8_check_42 : decode cX8_check 42 = .ok (.getfield 38, 3) := by decide +kernel
theorem dX8_check_45 : decode cX8_check 45 = .ok (.iload_n 2, 1) := by decide +kernel
theorem dX8_check_46 : decode cX8_check 46 = .ok (.aaload, 1) := by decide +kernel
theorem dX8_check_47 : decode cX8_check 47 = .ok (.getfield 167, 3) := by decide +kernel
theorem dX8_check_50 : decode cX8_check 50 = .ok (.ifCond .ne 21, 3) := by decide +kernel
theorem dX8_check_53 : decode cX8_check 53 = .ok (.aload_n 0, 1) := by decide +kernel
theorem dX8_check_54 : decode cX8_check 54 = .ok (.aload_n 0, 1) := by decide +kernel
theorem dX8_check_55 : decode cX8_check 55 = .ok (.getfield 38, 3) := by decide +kernel
theorem dX8_check_58 : decode cX8_check 58 = .ok (.iload_n 2, 1) := by decide +kernel
theorem dX8_check_59 : decode cX8_check 59 = .ok (.aaload, 1) := by decide +kernel
theorem dX8_check_60 : decode cX8_check 60 = .ok (.invokevirtual 200, 3) := by decide +kernel
theorem dX8_check_63 : decode cX8_check 63 = .ok (.ifCond .eq 8, 3) := by decide +kernel
theorem dX8_check_66 : decode cX8_check 66 = .ok (.aload_n 0, 1) := by decide +kernel
theorem dX8_check_67 : decode cX8_check 67 = .ok (.iload_n 2, 1) := by decide +kernel
theorem dX8_check_68 : decode cX8_check 68 = .ok (.putfield 197, 3) := by decide +kernel
theorem dX8_check_71 : decode cX8_check 71 = .ok (.iinc 2 (-1), 3) := by decide +kernel
theorem dX8_check_74 : decode cX8_check 74 = .ok (.goto (-46), 3) := by decide +kernel
theorem dX8_check_77 : decode cX8_check 77 = .ok (.aload_n 0, 1) := by decide +kernel
theorem dX8_check_78 : decode cX8_check 78 = .ok (.getfield 38, 3) := by decide +kernel
theorem dX8_check_81 : decode cX8_check 81 = .ok (.iload_n 1, 1) := by decide +kernel
theorem dX8_check_82 : decode cX8_check 82 = .ok (.aaload, 1) := by decide +kernel
theorem dX8_check_83 : decode cX8_check 83 = .ok (.getfield 167, 3) := by decide +kernel
theorem dX8_check_86 : decode cX8_check 86 = .ok (.ifCond .eq 7, 3) := by decide +kernel
theorem dX8_check_89 : decode cX8_check 89 = .ok (.iconst 1, 1) := by decide +kernel
theorem dX8_check_90 : decode cX8_check 90 = .ok (.goto 4, 3) := by decide +kernel
theorem dX8_check_93 : decode cX8_check 93 = .ok (.iconst 0, 1) := by decide +kernel
theorem dX8_check_94 : decode cX8_check 94 = .ok (.ireturn, 1) := by decide +kernel
abbrev cX8_look : ByteArray := prog_25_method_11_code
def yX8_look : MethodName := ⟨RX8, "look", "(I)V"⟩
theorem dX8_look_0 : decode cX8_look 0 = .ok (.aload_n 0, 1) := by decide +kernel
theorem dX8_look_1 : decode cX8_look 1 = .ok (.getfield 158, 3) := by decide +kernel
theorem dX8_look_4 : decode cX8_look 4 = .ok (.iload_n 1, 1) := by decide +kernel
theorem dX8_look_5 : decode cX8_look 5 = .ok (.if_icmp .ge 201, 3) := by decide +kernel
theorem dX8_look_8 : decode cX8_look 8 = .ok (.aload_n 0, 1) := by decide +kernel
theorem dX8_look_9 : decode cX8_look 9 = .ok (.dup, 1) := by decide +kernel
theorem dX8_look_10 : decode cX8_look 10 = .ok (.getfield 158, 3) := by decide +kernel
theorem dX8_look_13 : decode cX8_look 13 = .ok (.iconst 1, 1) := by decide +kernel
theorem dX8_look_14 : decode cX8_look 14 = .ok (.iadd, 1) := by decide +kernel
theorem dX8_look_15 : decode cX8_look 15 = .ok (.putfield 158, 3) := by decide +kernel
theorem dX8_look_18 : decode cX8_look 18 = .ok (.aload_n 0, 1) := by decide +kernel
theorem dX8_look_19 : decode cX8_look 19 = .ok (.getfield 38, 3) := by decide +kernel
theorem dX8_look_22 : decode cX8_look 22 = .ok (.aload_n 0, 1) := by decide +kernel
theorem dX8_look_23 : decode cX8_look 23 = .ok (.getfield 158, 3) := by decide +kernel
theorem dX8_look_26 : decode cX8_look 26 = .ok (.aaload, 1) := by decide +kernel
theorem dX8_look_27 : decode cX8_look 27 = .ok (.astore_n 2, 1) := by decide +kernel
theorem dX8_look_28 : decode cX8_look 28 = .ok (.aload_n 2, 1) := by decide +kernel
theorem dX8_look_29 : decode cX8_look 29 = .ok (.aload_n 2, 1) := by decide +kernel
theorem dX8_look_30 : decode cX8_look 30 = .ok (.getfield 152, 3) := by decide +kernel
theorem dX8_look_33 : decode cX8_look 33 = .ok (.aload_n 0, 1) := by decide +kernel
theorem dX8_look_34 : decode cX8_look 34 = .ok (.getfield 20, 3) := by decide +kernel
theorem dX8_look_37 : decode cX8_look 37 = .ok (.aload_n 2, 1) := by decide +kernel
theorem dX8_look_38 : decode cX8_look 38 = .ok (.getfield 155, 3) := by decide +kernel
theorem dX8_look_41 : decode cX8_look 41 = .ok (.aaload, 1) := by decide +kernel
theorem dX8_look_42 : decode cX8_look 42 = .ok (.invokeinterface 143 1, 5) := by decide +kernel
theorem dX8_look_47 : decode cX8_look 47 = .ok (.if_icmp .ne 7, 3) := by decide +kernel
theorem dX8_look_50 : decode cX8_look 50 = .ok (.iconst 1, 1) := by decide +kernel
theorem dX8_look_51 : decode cX8_look 51 = .ok (.goto 4, 3) := by decide +kernel
theorem dX8_look_54 : decode cX8_look 54 = .ok (.iconst 0, 1) := by decide +kernel
theorem dX8_look_55 : decode cX8_look 55 = .ok (.putfield 167, 3) := by decide +kernel
theorem dX8_look_58 : decode cX8_look 58 = .ok (.lconst 1, 1) := by decide +kernel
theorem dX8_look_59 : decode cX8_look 59 = .ok (.lstore_n 3, 1) := by decide +kernel
theorem dX8_look_60 : decode cX8_look 60 = .ok (.iconst 0, 1) := by decide +kernel
theorem dX8_look_61 : decode cX8_look 61 = .ok (.istore 5, 2) := by decide +kernel
theorem dX8_look_63 : decode cX8_look 63 = .ok (.iload 5, 2) := by decide +kernel
theorem dX8_look_65 : decode cX8_look 65 = .ok (.aload_n 2, 1) := by decide +kernel
theorem dX8_look_66 : decode cX8_look 66 = .ok (.getfield 152, 3) := by decide +kernel
theorem dX8_look_69 : decode cX8_look 69 = .ok (.if_icmp .ge 58, 3) := by decide +kernel
theorem dX8_look_72 : decode cX8_look 72 = .ok (.aload_n 0, 1) := by decide +kernel
theorem dX8_look_73 : decode cX8_look 73 = .ok (.getfield 38, 3) := by decide +kernel
theorem dX8_look_76 : decode cX8_look 76 = .ok (.aload_n 2, 1) := by decide +kernel
theorem dX8_look_77 : decode cX8_look 77 = .ok (.getfield 150, 3) := by decide +kernel
theorem dX8_look_80 : decode cX8_look 80 = .ok (.iload 5, 2) := by decide +kernel
theorem dX8_look_82 : decode cX8_look 82 = .ok (.iaload, 1) := by decide +kernel
theorem dX8_look_83 : decode cX8_look 83 = .ok (.aaload, 1) := by decide +kernel
theorem dX8_look_84 : decode cX8_look 84 = .ok (.astore 6, 2) := by decide +kernel
theorem dX8_look_86 : decode cX8_look 86 = .ok (.aload_n 0, 1) := by decide +kernel
theorem dX8_look_87 : decode cX8_look 87 = .ok (.getfield 42, 3) := by decide +kernel
theorem dX8_look_90 : decode cX8_look 90 = .ok (.iload 5, 2) := by decide +kernel
theorem dX8_look_92 : decode cX8_look 92 = .ok (.aload 6, 2) := by decide +kernel
theorem dX8_look_94 : decode cX8_look 94 = .ok (.getfield 171, 3) := by decide +kernel
theorem dX8_look_97 : decode cX8_look 97 = .ok (.aastore, 1) := by decide +kernel
theorem dX8_look_98 : decode cX8_look 98 = .ok (.aload_n 2, 1) := by decide +kernel
theorem dX8_look_99 : decode cX8_look 99 = .ok (.dup, 1) := by decide +kernel
theorem dX8_look_100 : decode cX8_look 100 = .ok (.getfield 167, 3) := by decide +kernel
theorem dX8_look_103 : decode cX8_look 103 = .ok (.aload 6, 2) := by decide +kernel
theorem dX8_look_105 : decode cX8_look 105 = .ok (.getfield 167, 3) := by decide +kernel
theorem dX8_look_108 : decode cX8_look 108 = .ok (.iand, 1) := by decide +kernel
theorem dX8_look_109 : decode cX8_look 109 = .ok (.putfield 167, 3) := by decide +kernel
theorem dX8_look_112 : decode cX8_look 112 = .ok (.lload_n 3, 1) := by decide +kernel
theorem dX8_look_113 : decode cX8_look 113 = .ok (.aload 6, 2) := by decide +kernel
theorem dX8_look_115 : decode cX8_look 115 = .ok (.getfield 174, 3) := by decide +kernel
theorem dX8_look_118 : decode cX8_look 118 = .ok (.i2l, 1) := by decide +kernel
theorem dX8_look_119 : decode cX8_look 119 = .ok (.ladd, 1) := by decide +kernel
theorem dX8_look_120 : decode cX8_look 120 = .ok (.lstore_n 3, 1) := by decide +kernel
theorem dX8_look_121 : decode cX8_look 121 = .ok (.iinc 5 1, 3) := by decide +kernel
theorem dX8_look_124 : decode cX8_look 124 = .ok (.goto (-61), 3) := by decide +kernel
theorem dX8_look_127 : decode cX8_look 127 = .ok (.aload_n 2, 1) := by decide +kernel
theorem dX8_look_128 : decode cX8_look 128 = .ok (.lload_n 3, 1) := by decide +kernel
theorem dX8_look_129 : decode cX8_look 129 = .ok (.ldc2_w 177, 3) := by decide +kernel
theorem dX8_look_132 : decode cX8_look 132 = .ok (.invokestatic 179, 3) := by decide +kernel
theorem dX8_look_135 : decode cX8_look 135 = .ok (.l2i, 1) := by decide +kernel
theorem dX8_look_136 : decode cX8_look 136 = .ok (.putfield 174, 3) := by decide +kernel
theorem dX8_look_139 : decode cX8_look 139 = .ok (.aload_n 2, 1) := by decide +kernel
theorem dX8_look_140 : decode cX8_look 140 = .ok (.aload_n 2, 1) := by decide +kernel
theorem dX8_look_141 : decode cX8_look 141 = .ok (.getfield 167, 3) := by decide +kernel
theorem dX8_look_144 : decode cX8_look 144 = .ok (.ifCond .eq 37, 3) := by decide +kernel
theorem dX8_look_147 : decode cX8_look 147 = .ok (.aload_n 0, 1) := by decide +kernel
theorem dX8_look_148 : decode cX8_look 148 = .ok (.getfield 20, 3) := by decide +kernel
theorem dX8_look_151 : decode cX8_look 151 = .ok (.aload_n 2, 1) := by decide +kernel
theorem dX8_look_152 : decode cX8_look 152 = .ok (.getfield 155, 3) := by decide +kernel
theorem dX8_look_155 : decode cX8_look 155 = .ok (.aaload, 1) := by decide +kernel
theorem dX8_look_156 : decode cX8_look 156 = .ok (.aload_n 0, 1) := by decide +kernel
theorem dX8_look_157 : decode cX8_look 157 = .ok (.aload_n 2, 1) := by decide +kernel
theorem dX8_look_158 : decode cX8_look 158 = .ok (.getfield 182, 3) := by decide +kernel
theorem dX8_look_161 : decode cX8_look 161 = .ok (.aload_n 0, 1) := by decide +kernel
theorem dX8_look_162 : decode cX8_look 162 = .ok (.getfield 42, 3) := by decide +kernel
theorem dX8_look_165 : decode cX8_look 165 = .ok (.aload_n 2, 1) := by decide +kernel
theorem dX8_look_166 : decode cX8_look 166 = .ok (.getfield 171, 3) := by decide +kernel
theorem dX8_look_169 : decode cX8_look 169 = .ok (.invokeinterface 185 5, 5) := by decide +kernel
theorem dX8_look_174 : decode cX8_look 174 = .ok (.ifCond .eq 7, 3) := by decide +kernel
theorem dX8_look_177 : decode cX8_look 177 = .ok (.iconst 1, 1) := by decide +kernel
theorem dX8_look_178 : decode cX8_look 178 = .ok (.goto 4, 3) := by decide +kernel
theorem dX8_look_181 : decode cX8_look 181 = .ok (.iconst 0, 1) := by decide +kernel
theorem dX8_look_182 : decode cX8_look 182 = .ok (.putfield 167, 3) := by decide +kernel
theorem dX8_look_185 : decode cX8_look 185 = .ok (.aload_n 2, 1) := by decide +kernel
theorem dX8_look_186 : decode cX8_look 186 = .ok (.getfield 167, 3) := by decide +kernel
theorem dX8_look_189 : decode cX8_look 189 = .ok (.ifCond .ne 14, 3) := by decide +kernel
theorem dX8_look_192 : decode cX8_look 192 = .ok (.aload_n 2, 1) := by decide +kernel
theorem dX8_look_193 : decode cX8_look 193 = .ok (.getfield 171, 3) := by decide +kernel
theorem dX8_look_196 : decode cX8_look 196 = .ok (.iconst 0, 1) := by decide +kernel
theorem dX8_look_197 : decode cX8_look 197 = .ok (.iconst 0, 1) := by decide +kernel
theorem dX8_look_198 : decode cX8_look 198 = .ok (.iconst 0, 1) := by decide +kernel
theorem dX8_look_199 : decode cX8_look 199 = .ok (.iconst 0, 1) := by decide +kernel
theorem dX8_look_200 : decode cX8_look 200 = .ok (.invokevirtual 118, 3) := by decide +kernel
theorem dX8_look_203 : decode cX8_look 203 = .ok (.goto (-203), 3) := by decide +kernel
theorem dX8_look_206 : decode cX8_look 206 = .ok (.return_, 1) := by decide +kernel
abbrev cX8_isOf : ByteArray := prog_25_method_1_code
def yX8_isOf : MethodName := ⟨RX8, "isOf", "(LKnowHouse$ProofChecker$Statement;I)Z"⟩
theorem dX8_isOf_0 : decode cX8_isOf 0 = .ok (.aload_n 0, 1) := by decide +kernel
theorem dX8_isOf_1 : decode cX8_isOf 1 = .ok (.getfield 1, 3) := by decide +kernel
theorem dX8_isOf_4 : decode cX8_isOf 4 = .ok (.bipush 11, 2) := by decide +kernel
theorem dX8_isOf_6 : decode cX8_isOf 6 = .ok (.if_icmp .ne 15, 3) := by decide +kernel
theorem dX8_isOf_9 : decode cX8_isOf 9 = .ok (.aload_n 0, 1) := by decide +kernel
theorem dX8_isOf_10 : decode cX8_isOf 10 = .ok (.getfield 9, 3) := by decide +kernel
theorem dX8_isOf_13 : decode cX8_isOf 13 = .ok (.iload_n 1, 1) := by decide +kernel
theorem dX8_isOf_14 : decode cX8_isOf 14 = .ok (.if_icmp .ne 7, 3) := by decide +kernel
theorem dX8_isOf_17 : decode cX8_isOf 17 = .ok (.iconst 1, 1) := by decide +kernel
theorem dX8_isOf_18 : decode cX8_isOf 18 = .ok (.goto 4, 3) := by decide +kernel
theorem dX8_isOf_21 : decode cX8_isOf 21 = .ok (.iconst 0, 1) := by decide +kernel
theorem dX8_isOf_22 : decode cX8_isOf 22 = .ok (.ireturn, 1) := by decide +kernel
abbrev cX8_need : ByteArray := prog_25_method_12_code
def yX8_need : MethodName := ⟨RX8, "need", "(I)I"⟩
theorem dX8_need_0 : decode cX8_need 0 = .ok (.iconst 1, 1) := by decide +kernel
theorem dX8_need_1 : decode cX8_need 1 = .ok (.istore_n 2, 1) := by decide +kernel
theorem dX8_need_2 : decode cX8_need 2 = .ok (.iload_n 2, 1) := by decide +kernel
theorem dX8_need_3 : decode cX8_need 3 = .ok (.aload_n 0, 1) := by decide +kernel
theorem dX8_need_4 : decode cX8_need 4 = .ok (.getfield 133, 3) := by decide +kernel
theorem dX8_need_7 : decode cX8_need 7 = .ok (.if_icmp .gt 25, 3) := by decide +kernel
theorem dX8_need_10 : decode cX8_need 10 = .ok (.aload_n 0, 1) := by decide +kernel
theorem dX8_need_11 : decode cX8_need 11 = .ok (.getfield 45, 3) := by decide +kernel
theorem dX8_need_14 : decode cX8_need 14 = .ok (.iload_n 2, 1) := by decide +kernel
theorem dX8_need_15 : decode cX8_need 15 = .ok (.iload_n 2, 1) := by decide +kernel
theorem dX8_need_16 : decode cX8_need 16 = .ok (.iload_n 1, 1) := by decide +kernel
theorem dX8_need_17 : decode cX8_need 17 = .ok (.if_icmp .ne 7, 3) := by decide +kernel
theorem dX8_need_20 : decode cX8_need 20 = .ok (.iconst 1, 1) := by decide +kernel
theorem dX8_need_21 : decode cX8_need 21 = .ok (.goto 4, 3) := by decide +kernel
theorem dX8_need_24 : decode cX8_need 24 = .ok (.iconst 0, 1) := by decide +kernel
theorem dX8_need_25 : decode cX8_need 25 = .ok (.bastore, 1) := by decide +kernel
theorem dX8_need_26 : decode cX8_need 26 = .ok (.iinc 2 1, 3) := by decide +kernel
theorem dX8_need_29 : decode cX8_need 29 = .ok (.goto (-27), 3) := by decide +kernel
theorem dX8_need_32 : decode cX8_need 32 = .ok (.iconst 0, 1) := by decide +kernel
theorem dX8_need_33 : decode cX8_need 33 = .ok (.istore_n 2, 1) := by decide +kernel
theorem dX8_need_34 : decode cX8_need 34 = .ok (.iload_n 1, 1) := by decide +kernel
theorem dX8_need_35 : decode cX8_need 35 = .ok (.istore_n 3, 1) := by decide +kernel
theorem dX8_need_36 : decode cX8_need 36 = .ok (.iload_n 3, 1) := by decide +kernel
theorem dX8_need_37 : decode cX8_need 37 = .ok (.ifCond .le 65, 3) := by decide +kernel
theorem dX8_need_40 : decode cX8_need 40 = .ok (.aload_n 0, 1) := by decide +kernel
theorem dX8_need_41 : decode cX8_need 41 = .ok (.getfield 45, 3) := by decide +kernel
theorem dX8_need_44 : decode cX8_need 44 = .ok (.iload_n 3, 1) := by decide +kernel
theorem dX8_need_45 : decode cX8_need 45 = .ok (.baload, 1) := by decide +kernel
theorem dX8_need_46 : decode cX8_need 46 = .ok (.ifCond .ne 6, 3) := by decide +kernel
theorem dX8_need_49 : decode cX8_need 49 = .ok (.goto 47, 3) := by decide +kernel
theorem dX8_need_52 : decode cX8_need 52 = .ok (.iinc 2 1, 3) := by decide +kernel
theorem dX8_need_55 : decode cX8_need 55 = .ok (.aload_n 0, 1) := by decide +kernel
theorem dX8_need_56 : decode cX8_need 56 = .ok (.getfield 38, 3) := by decide +kernel
theorem dX8_need_59 : decode cX8_need 59 = .ok (.iload_n 3, 1) := by decide +kernel
theorem dX8_need_60 : decode cX8_need 60 = .ok (.aaload, 1) := by decide +kernel
theorem dX8_need_61 : decode cX8_need 61 = .ok (.astore 4, 2) := by decide +kernel
theorem dX8_need_63 : decode cX8_need 63 = .ok (.iconst 0, 1) := by decide +kernel
theorem dX8_need_64 : decode cX8_need 64 = .ok (.istore 5, 2) := by decide +kernel
theorem dX8_need_66 : decode cX8_need 66 = .ok (.iload 5, 2) := by decide +kernel
theorem dX8_need_68 : decode cX8_need 68 = .ok (.aload 4, 2) := by decide +kernel
theorem dX8_need_70 : decode cX8_need 70 = .ok (.getfield 152, 3) := by decide +kernel
theorem dX8_need_73 : decode cX8_need 73 = .ok (.if_icmp .ge 23, 3) := by decide +kernel
theorem dX8_need_76 : decode cX8_need 76 = .ok (.aload_n 0, 1) := by decide +kernel
theorem dX8_need_77 : decode cX8_need 77 = .ok (.getfield 45, 3) := by decide +kernel
theorem dX8_need_80 : decode cX8_need 80 = .ok (.aload 4, 2) := by decide +kernel
theorem dX8_need_82 : decode cX8_need 82 = .ok (.getfield 150, 3) := by decide +kernel
theorem dX8_need_85 : decode cX8_need 85 = .ok (.iload 5, 2) := by decide +kernel
theorem dX8_need_87 : decode cX8_need 87 = .ok (.iaload, 1) := by decide +kernel
theorem dX8_need_88 : decode cX8_need 88 = .ok (.iconst 1, 1) := by decide +kernel
theorem dX8_need_89 : decode cX8_need 89 = .ok (.bastore, 1) := by decide +kernel
theorem dX8_need_90 : decode cX8_need 90 = .ok (.iinc 5 1, 3) := by decide +kernel
theorem dX8_need_93 : decode cX8_need 93 = .ok (.goto (-27), 3) := by decide +kernel
theorem dX8_need_96 : decode cX8_need 96 = .ok (.iinc 3 (-1), 3) := by decide +kernel
theorem dX8_need_99 : decode cX8_need 99 = .ok (.goto (-63), 3) := by decide +kernel
theorem dX8_need_102 : decode cX8_need 102 = .ok (.iload_n 2, 1) := by decide +kernel
theorem dX8_need_103 : decode cX8_need 103 = .ok (.ireturn, 1) := by decide +kernel
abbrev cX8_arePremisesRight : ByteArray := prog_25_method_13_code
def yX8_arePremisesRight : MethodName := ⟨RX8, "arePremisesRight", "(LKnowHouse$ProofChecker$Row;)Z"⟩
theorem dX8_arePremisesRight_0 : decode cX8_arePremisesRight 0 = .ok (.iconst 1, 1) := by decide +kernel
theorem dX8_arePremisesRight_1 : decode cX8_arePremisesRight 1 = .ok (.istore_n 2, 1) := by decide +kernel
theorem dX8_arePremisesRight_2 : decode cX8_arePremisesRight 2 = .ok (.iconst 0, 1) := by decide +kernel
theorem dX8_arePremisesRight_3 : decode cX8_arePremisesRight 3 = .ok (.istore_n 3, 1) := by decide +kernel
theorem dX8_arePremisesRight_4 : decode cX8_arePremisesRight 4 = .ok (.iload_n 3, 1) := by decide +kernel
theorem dX8_arePremisesRight_5 : decode cX8_arePremisesRight 5 = .ok (.aload_n 1, 1) := by decide +kernel
theorem dX8_arePremisesRight_6 : decode cX8_arePremisesRight 6 = .ok (.getfield 152, 3) := by decide +kernel
theorem dX8_arePremisesRight_9 : decode cX8_arePremisesRight 9 = .ok (.if_icmp .ge 26, 3) := by decide +kernel
theorem dX8_arePremisesRight_12 : decode cX8_arePremisesRight 12 = .ok (.iload_n 2, 1) := by decide +kernel
theorem dX8_arePremisesRight_13 : decode cX8_arePremisesRight 13 = .ok (.aload_n 0, 1) := by decide +kernel
theorem dX8_arePremisesRight_14 : decode cX8_arePremisesRight 14 = .ok (.getfield 38, 3) := by decide +kernel
theorem dX8_arePremisesRight_17 : decode cX8_arePremisesRight 17 = .ok (.aload_n 1, 1) := by decide +kernel
theorem dX8_arePremisesRight_18 : decode cX8_arePremisesRight 18 = .ok (.getfield 150, 3) := by decide +kernel
theorem dX8_arePremisesRight_21 : decode cX8_arePremisesRight 21 = .ok (.iload_n 3, 1) := by decide +kernel
theorem dX8_arePremisesRight_22 : decode cX8_arePremisesRight 22 = .ok (.iaload, 1) := by decide +kernel
theorem dX8_arePremisesRight_23 : decode cX8_arePremisesRight 23 = .ok (.aaload, 1) := by decide +kernel
theorem dX8_arePremisesRight_24 : decode cX8_arePremisesRight 24 = .ok (.getfield 167, 3) := by decide +kernel
theorem dX8_arePremisesRight_27 : decode cX8_arePremisesRight 27 = .ok (.iand, 1) := by decide +kernel
theorem dX8_arePremisesRight_28 : decode cX8_arePremisesRight 28 = .ok (.istore_n 2, 1) := by decide +kernel
theorem dX8_arePremisesRight_29 : decode cX8_arePremisesRight 29 = .ok (.iinc 3 1, 3) := by decide +kernel
theorem dX8_arePremisesRight_32 : decode cX8_arePremisesRight 32 = .ok (.goto (-28), 3) := by decide +kernel
theorem dX8_arePremisesRight_35 : decode cX8_arePremisesRight 35 = .ok (.iload_n 2, 1) := by decide +kernel
theorem dX8_arePremisesRight_36 : decode cX8_arePremisesRight 36 = .ok (.ireturn, 1) := by decide +kernel
abbrev cX8_broken : ByteArray := prog_25_method_15_code
def yX8_broken : MethodName := ⟨RX8, "broken", "()I"⟩
theorem dX8_broken_0 : decode cX8_broken 0 = .ok (.aload_n 0, 1) := by decide +kernel
theorem dX8_broken_1 : decode cX8_broken 1 = .ok (.getfield 197, 3) := by decide +kernel
theorem dX8_broken_4 : decode cX8_broken 4 = .ok (.ireturn, 1) := by decide +kernel
abbrev cX8_rows : ByteArray := prog_25_method_16_code
def yX8_rows : MethodName := ⟨RX8, "rows", "(I)I"⟩
theorem dX8_rows_0 : decode cX8_rows 0 = .ok (.aload_n 0, 1) := by decide +kernel
theorem dX8_rows_1 : decode cX8_rows 1 = .ok (.iload_n 1, 1) := by decide +kernel
theorem dX8_rows_2 : decode cX8_rows 2 = .ok (.invokevirtual 140, 3) := by decide +kernel
theorem dX8_rows_5 : decode cX8_rows 5 = .ok (.ifCond .eq 11, 3) := by decide +kernel
theorem dX8_rows_8 : decode cX8_rows 8 = .ok (.aload_n 0, 1) := by decide +kernel
theorem dX8_rows_9 : decode cX8_rows 9 = .ok (.iload_n 1, 1) := by decide +kernel
theorem dX8_rows_10 : decode cX8_rows 10 = .ok (.invokevirtual 193, 3) := by decide +kernel
theorem dX8_rows_13 : decode cX8_rows 13 = .ok (.goto 4, 3) := by decide +kernel
theorem dX8_rows_16 : decode cX8_rows 16 = .ok (.iconst (-1), 1) := by decide +kernel
theorem dX8_rows_17 : decode cX8_rows 17 = .ok (.ireturn, 1) := by decide +kernel
abbrev cX8_size : ByteArray := prog_25_method_17_code
def yX8_size : MethodName := ⟨RX8, "size", "(I)I"⟩
theorem dX8_size_0 : decode cX8_size 0 = .ok (.aload_n 0, 1) := by decide +kernel
theorem dX8_size_1 : decode cX8_size 1 = .ok (.iload_n 1, 1) := by decide +kernel
theorem dX8_size_2 : decode cX8_size 2 = .ok (.invokevirtual 140, 3) := by decide +kernel
theorem dX8_size_5 : decode cX8_size 5 = .ok (.ifCond .ne 5, 3) := by decide +kernel
theorem dX8_size_8 : decode cX8_size 8 = .ok (.iconst (-1), 1) := by decide +kernel
theorem dX8_size_9 : decode cX8_size 9 = .ok (.ireturn, 1) := by decide +kernel
theorem dX8_size_10 : decode cX8_size 10 = .ok (.aload_n 0, 1) := by decide +kernel
theorem dX8_size_11 : decode cX8_size 11 = .ok (.iload_n 1, 1) := by decide +kernel
theorem dX8_size_12 : decode cX8_size 12 = .ok (.invokevirtual 189, 3) := by decide +kernel
theorem dX8_size_15 : decode cX8_size 15 = .ok (.aload_n 0, 1) := by decide +kernel
theorem dX8_size_16 : decode cX8_size 16 = .ok (.getfield 38, 3) := by decide +kernel
theorem dX8_size_19 : decode cX8_size 19 = .ok (.iload_n 1, 1) := by decide +kernel
theorem dX8_size_20 : decode cX8_size 20 = .ok (.aaload, 1) := by decide +kernel
theorem dX8_size_21 : decode cX8_size 21 = .ok (.getfield 174, 3) := by decide +kernel
theorem dX8_size_24 : decode cX8_size 24 = .ok (.ireturn, 1) := by decide +kernel
abbrev cX8_drop : ByteArray := prog_25_method_18_code
def yX8_drop : MethodName := ⟨RX8, "drop", "(I)I"⟩
theorem dX8_drop_0 : decode cX8_drop 0 = .ok (.aload_n 0, 1) := by decide +kernel
theorem dX8_drop_1 : decode cX8_drop 1 = .ok (.iload_n 1, 1) := by decide +kernel
theorem dX8_drop_2 : decode cX8_drop 2 = .ok (.invokevirtual 140, 3) := by decide +kernel
theorem dX8_drop_5 : decode cX8_drop 5 = .ok (.ifCond .ne 5, 3) := by decide +kernel
theorem dX8_drop_8 : decode cX8_drop 8 = .ok (.iconst (-1), 1) := by decide +kernel
theorem dX8_drop_9 : decode cX8_drop 9 = .ok (.ireturn, 1) := by decide +kernel
theorem dX8_drop_10 : decode cX8_drop 10 = .ok (.aload_n 0, 1) := by decide +kernel
theorem dX8_drop_11 : decode cX8_drop 11 = .ok (.iload_n 1, 1) := by decide +kernel
theorem dX8_drop_12 : decode cX8_drop 12 = .ok (.invokevirtual 193, 3) := by decide +kernel
theorem dX8_drop_15 : decode cX8_drop 15 = .ok (.istore_n 2, 1) := by decide +kernel
theorem dX8_drop_16 : decode cX8_drop 16 = .ok (.iconst 0, 1) := by decide +kernel
theorem dX8_drop_17 : decode cX8_drop 17 = .ok (.istore_n 3, 1) := by decide +kernel
theorem dX8_drop_18 : decode cX8_drop 18 = .ok (.iconst 1, 1) := by decide +kernel
theorem dX8_drop_19 : decode cX8_drop 19 = .ok (.istore 4, 2) := by decide +kernel
theorem dX8_drop_21 : decode cX8_drop 21 = .ok (.iload 4, 2) := by decide +kernel
theorem dX8_drop_23 : decode cX8_drop 23 = .ok (.iload_n 1, 1) := by decide +kernel
theorem dX8_drop_24 : decode cX8_drop 24 = .ok (.if_icmp .gt 99, 3) := by decide +kernel
theorem dX8_drop_27 : decode cX8_drop 27 = .ok (.aload_n 0, 1) := by decide +kernel
theorem dX8_drop_28 : decode cX8_drop 28 = .ok (.getfield 45, 3) := by decide +kernel
theorem dX8_drop_31 : decode cX8_drop 31 = .ok (.iload 4, 2) := by decide +kernel
theorem dX8_drop_33 : decode cX8_drop 33 = .ok (.baload, 1) := by decide +kernel
theorem dX8_drop_34 : decode cX8_drop 34 = .ok (.ifCond .ne 6, 3) := by decide +kernel
theorem dX8_drop_37 : decode cX8_drop 37 = .ok (.goto 80, 3) := by decide +kernel
theorem dX8_drop_40 : decode cX8_drop 40 = .ok (.iinc 3 1, 3) := by decide +kernel
theorem dX8_drop_43 : decode cX8_drop 43 = .ok (.aload_n 0, 1) := by decide +kernel
theorem dX8_drop_44 : decode cX8_drop 44 = .ok (.getfield 49, 3) := by decide +kernel
theorem dX8_drop_47 : decode cX8_drop 47 = .ok (.iload 4, 2) := by decide +kernel
theorem dX8_drop_49 : decode cX8_drop 49 = .ok (.iload_n 3, 1) := by decide +kernel
theorem dX8_drop_50 : decode cX8_drop 50 = .ok (.iastore, 1) := by decide +kernel
theorem dX8_drop_51 : decode cX8_drop 51 = .ok (.aload_n 0, 1) := by decide +kernel
theorem dX8_drop_52 : decode cX8_drop 52 = .ok (.getfield 38, 3) := by decide +kernel
theorem dX8_drop_55 : decode cX8_drop 55 = .ok (.iload_n 3, 1) := by decide +kernel
theorem dX8_drop_56 : decode cX8_drop 56 = .ok (.aaload, 1) := by decide +kernel
theorem dX8_drop_57 : decode cX8_drop 57 = .ok (.astore 5, 2) := by decide +kernel
theorem dX8_drop_59 : decode cX8_drop 59 = .ok (.iload_n 3, 1) := by decide +kernel
theorem dX8_drop_60 : decode cX8_drop 60 = .ok (.iload 4, 2) := by decide +kernel
theorem dX8_drop_62 : decode cX8_drop 62 = .ok (.if_icmp .ge 15, 3) := by decide +kernel
theorem dX8_drop_65 : decode cX8_drop 65 = .ok (.aload 5, 2) := by decide +kernel
theorem dX8_drop_67 : decode cX8_drop 67 = .ok (.aload_n 0, 1) := by decide +kernel
theorem dX8_drop_68 : decode cX8_drop 68 = .ok (.getfield 38, 3) := by decide +kernel
theorem dX8_drop_71 : decode cX8_drop 71 = .ok (.iload 4, 2) := by decide +kernel
theorem dX8_drop_73 : decode cX8_drop 73 = .ok (.aaload, 1) := by decide +kernel
theorem dX8_drop_74 : decode cX8_drop 74 = .ok (.invokevirtual 204, 3) := by decide +kernel
theorem dX8_drop_77 : decode cX8_drop 77 = .ok (.iconst 0, 1) := by decide +kernel
theorem dX8_drop_78 : decode cX8_drop 78 = .ok (.istore 6, 2) := by decide +kernel
theorem dX8_drop_80 : decode cX8_drop 80 = .ok (.iload 6, 2) := by decide +kernel
theorem dX8_drop_82 : decode cX8_drop 82 = .ok (.aload 5, 2) := by decide +kernel
theorem dX8_drop_84 : decode cX8_drop 84 = .ok (.getfield 152, 3) := by decide +kernel
theorem dX8_drop_87 : decode cX8_drop 87 = .ok (.if_icmp .ge 30, 3) := by decide +kernel
theorem dX8_drop_90 : decode cX8_drop 90 = .ok (.aload 5, 2) := by decide +kernel
theorem dX8_drop_92 : decode cX8_drop 92 = .ok (.getfield 150, 3) := by decide +kernel
theorem dX8_drop_95 : decode cX8_drop 95 = .ok (.iload 6, 2) := by decide +kernel
theorem dX8_drop_97 : decode cX8_drop 97 = .ok (.aload_n 0, 1) := by decide +kernel
theorem dX8_drop_98 : decode cX8_drop 98 = .ok (.getfield 49, 3) := by decide +kernel
theorem dX8_drop_101 : decode cX8_drop 101 = .ok (.aload 5, 2) := by decide +kernel
theorem dX8_drop_103 : decode cX8_drop 103 = .ok (.getfield 150, 3) := by decide +kernel
theorem dX8_drop_106 : decode cX8_drop 106 = .ok (.iload 6, 2) := by decide +kernel
theorem dX8_drop_108 : decode cX8_drop 108 = .ok (.iaload, 1) := by decide +kernel
theorem dX8_drop_109 : decode cX8_drop 109 = .ok (.iaload, 1) := by decide +kernel
theorem dX8_drop_110 : decode cX8_drop 110 = .ok (.iastore, 1) := by decide +kernel
theorem dX8_drop_111 : decode cX8_drop 111 = .ok (.iinc 6 1, 3) := by decide +kernel
theorem dX8_drop_114 : decode cX8_drop 114 = .ok (.goto (-34), 3) := by decide +kernel
theorem dX8_drop_117 : decode cX8_drop 117 = .ok (.iinc 4 1, 3) := by decide +kernel
theorem dX8_drop_120 : decode cX8_drop 120 = .ok (.goto (-99), 3) := by decide +kernel
theorem dX8_drop_123 : decode cX8_drop 123 = .ok (.aload_n 0, 1) := by decide +kernel
theorem dX8_drop_124 : decode cX8_drop 124 = .ok (.iload_n 2, 1) := by decide +kernel
theorem dX8_drop_125 : decode cX8_drop 125 = .ok (.putfield 133, 3) := by decide +kernel
theorem dX8_drop_128 : decode cX8_drop 128 = .ok (.aload_n 0, 1) := by decide +kernel
theorem dX8_drop_129 : decode cX8_drop 129 = .ok (.iconst 0, 1) := by decide +kernel
theorem dX8_drop_130 : decode cX8_drop 130 = .ok (.putfield 158, 3) := by decide +kernel
theorem dX8_drop_133 : decode cX8_drop 133 = .ok (.aload_n 0, 1) := by decide +kernel
theorem dX8_drop_134 : decode cX8_drop 134 = .ok (.iconst 0, 1) := by decide +kernel
theorem dX8_drop_135 : decode cX8_drop 135 = .ok (.putfield 197, 3) := by decide +kernel
theorem dX8_drop_138 : decode cX8_drop 138 = .ok (.iload_n 2, 1) := by decide +kernel
theorem dX8_drop_139 : decode cX8_drop 139 = .ok (.ireturn, 1) := by decide +kernel
abbrev cX8_name : ByteArray := prog_25_method_19_code
def yX8_name : MethodName := ⟨RX8, "name", "(I)I"⟩
theorem dX8_name_0 : decode cX8_name 0 = .ok (.aload_n 0, 1) := by decide +kernel
theorem dX8_name_1 : decode cX8_name 1 = .ok (.iload_n 1, 1) := by decide +kernel
theorem dX8_name_2 : decode cX8_name 2 = .ok (.invokevirtual 140, 3) := by decide +kernel
theorem dX8_name_5 : decode cX8_name 5 = .ok (.ifCond .eq 15, 3) := by decide +kernel
theorem dX8_name_8 : decode cX8_name 8 = .ok (.aload_n 0, 1) := by decide +kernel
theorem dX8_name_9 : decode cX8_name 9 = .ok (.getfield 38, 3) := by decide +kernel
theorem dX8_name_12 : decode cX8_name 12 = .ok (.iload_n 1, 1) := by decide +kernel
theorem dX8_name_13 : decode cX8_name 13 = .ok (.aaload, 1) := by decide +kernel
theorem dX8_name_14 : decode cX8_name 14 = .ok (.getfield 155, 3) := by decide +kernel
theorem dX8_name_17 : decode cX8_name 17 = .ok (.goto 4, 3) := by decide +kernel
theorem dX8_name_20 : decode cX8_name 20 = .ok (.iconst (-1), 1) := by decide +kernel
theorem dX8_name_21 : decode cX8_name 21 = .ok (.ireturn, 1) := by decide +kernel
abbrev cX8_states : ByteArray := prog_25_method_20_code
def yX8_states : MethodName := ⟨RX8, "states", "(II)I"⟩
theorem dX8_states_0 : decode cX8_states 0 = .ok (.aload_n 0, 1) := by decide +kernel
theorem dX8_states_1 : decode cX8_states 1 = .ok (.iload_n 1, 1) := by decide +kernel
theorem dX8_states_2 : decode cX8_states 2 = .ok (.invokevirtual 140, 3) := by decide +kernel
theorem dX8_states_5 : decode cX8_states 5 = .ok (.ifCond .ne 5, 3) := by decide +kernel
theorem dX8_states_8 : decode cX8_states 8 = .ok (.iconst (-1), 1) := by decide +kernel
theorem dX8_states_9 : decode cX8_states 9 = .ok (.ireturn, 1) := by decide +kernel
theorem dX8_states_10 : decode cX8_states 10 = .ok (.iload_n 2, 1) := by decide +kernel
theorem dX8_states_11 : decode cX8_states 11 = .ok (.ifCond .lt 8, 3) := by decide +kernel
theorem dX8_states_14 : decode cX8_states 14 = .ok (.iload_n 2, 1) := by decide +kernel
theorem dX8_states_15 : decode cX8_states 15 = .ok (.iconst 3, 1) := by decide +kernel
theorem dX8_states_16 : decode cX8_states 16 = .ok (.if_icmp .le 6, 3) := by decide +kernel
theorem dX8_states_19 : decode cX8_states 19 = .ok (.bipush (-2), 2) := by decide +kernel
theorem dX8_states_21 : decode cX8_states 21 = .ok (.ireturn, 1) := by decide +kernel
theorem dX8_states_22 : decode cX8_states 22 = .ok (.aload_n 0, 1) := by decide +kernel
theorem dX8_states_23 : decode cX8_states 23 = .ok (.iload_n 1, 1) := by decide +kernel
theorem dX8_states_24 : decode cX8_states 24 = .ok (.invokevirtual 189, 3) := by decide +kernel
theorem dX8_states_27 : decode cX8_states 27 = .ok (.aload_n 0, 1) := by decide +kernel
theorem dX8_states_28 : decode cX8_states 28 = .ok (.getfield 38, 3) := by decide +kernel
theorem dX8_states_31 : decode cX8_states 31 = .ok (.iload_n 1, 1) := by decide +kernel
theorem dX8_states_32 : decode cX8_states 32 = .ok (.aaload, 1) := by decide +kernel
theorem dX8_states_33 : decode cX8_states 33 = .ok (.getfield 171, 3) := by decide +kernel
theorem dX8_states_36 : decode cX8_states 36 = .ok (.astore_n 3, 1) := by decide +kernel
theorem dX8_states_37 : decode cX8_states 37 = .ok (.iload_n 2, 1) := by decide +kernel
theorem dX8_states_38 : decode cX8_states 38 = .ok (.ifCond .ne 10, 3) := by decide +kernel
theorem dX8_states_41 : decode cX8_states 41 = .ok (.aload_n 3, 1) := by decide +kernel
theorem dX8_states_42 : decode cX8_states 42 = .ok (.getfield 1, 3) := by decide +kernel
theorem dX8_states_45 : decode cX8_states 45 = .ok (.goto 31, 3) := by decide +kernel
theorem dX8_states_48 : decode cX8_states 48 = .ok (.iload_n 2, 1) := by decide +kernel
theorem dX8_states_49 : decode cX8_states 49 = .ok (.iconst 1, 1) := by decide +kernel
theorem dX8_states_50 : decode cX8_states 50 = .ok (.if_icmp .ne 10, 3) := by decide +kernel
theorem dX8_states_53 : decode cX8_states 53 = .ok (.aload_n 3, 1) := by decide +kernel
theorem dX8_states_54 : decode cX8_states 54 = .ok (.getfield 208, 3) := by decide +kernel
theorem dX8_states_57 : decode cX8_states 57 = .ok (.goto 19, 3) := by decide +kernel
theorem dX8_states_60 : decode cX8_states 60 = .ok (.iload_n 2, 1) := by decide +kernel
theorem dX8_states_61 : decode cX8_states 61 = .ok (.iconst 2, 1) := by decide +kernel
theorem dX8_states_62 : decode cX8_states 62 = .ok (.if_icmp .ne 10, 3) := by decide +kernel
theorem dX8_states_65 : decode cX8_states 65 = .ok (.aload_n 3, 1) := by decide +kernel
theorem dX8_states_66 : decode cX8_states 66 = .ok (.getfield 9, 3) := by decide +kernel
theorem dX8_states_69 : decode cX8_states 69 = .ok (.goto 7, 3) := by decide +kernel
theorem dX8_states_72 : decode cX8_states 72 = .ok (.aload_n 3, 1) := by decide +kernel
theorem dX8_states_73 : decode cX8_states 73 = .ok (.getfield 211, 3) := by decide +kernel
theorem dX8_states_76 : decode cX8_states 76 = .ok (.ireturn, 1) := by decide +kernel
abbrev cX8_sentence : ByteArray := prog_25_method_27_code
def yX8_sentence : MethodName := ⟨RX8, "sentence", "(I)I"⟩
theorem dX8_sentence_0 : decode cX8_sentence 0 = .ok (.aload_n 0, 1) := by decide +kernel
theorem dX8_sentence_1 : decode cX8_sentence 1 = .ok (.iload_n 1, 1) := by decide +kernel
theorem dX8_sentence_2 : decode cX8_sentence 2 = .ok (.invokevirtual 140, 3) := by decide +kernel
theorem dX8_sentence_5 : decode cX8_sentence 5 = .ok (.ifCond .ne 5, 3) := by decide +kernel
theorem dX8_sentence_8 : decode cX8_sentence 8 = .ok (.iconst (-1), 1) := by decide +kernel
theorem dX8_sentence_9 : decode cX8_sentence 9 = .ok (.ireturn, 1) := by decide +kernel
theorem dX8_sentence_10 : decode cX8_sentence 10 = .ok (.aload_n 0, 1) := by decide +kernel
theorem dX8_sentence_11 : decode cX8_sentence 11 = .ok (.iload_n 1, 1) := by decide +kernel
theorem dX8_sentence_12 : decode cX8_sentence 12 = .ok (.invokevirtual 189, 3) := by decide +kernel
theorem dX8_sentence_15 : decode cX8_sentence 15 = .ok (.aload_n 0, 1) := by decide +kernel
theorem dX8_sentence_16 : decode cX8_sentence 16 = .ok (.getfield 38, 3) := by decide +kernel
theorem dX8_sentence_19 : decode cX8_sentence 19 = .ok (.iload_n 1, 1) := by decide +kernel
theorem dX8_sentence_20 : decode cX8_sentence 20 = .ok (.aaload, 1) := by decide +kernel
theorem dX8_sentence_21 : decode cX8_sentence 21 = .ok (.astore_n 2, 1) := by decide +kernel
theorem dX8_sentence_22 : decode cX8_sentence 22 = .ok (.aload_n 0, 1) := by decide +kernel
theorem dX8_sentence_23 : decode cX8_sentence 23 = .ok (.iconst 0, 1) := by decide +kernel
theorem dX8_sentence_24 : decode cX8_sentence 24 = .ok (.putfield 219, 3) := by decide +kernel
theorem dX8_sentence_27 : decode cX8_sentence 27 = .ok (.aload_n 0, 1) := by decide +kernel
theorem dX8_sentence_28 : decode cX8_sentence 28 = .ok (.iload_n 1, 1) := by decide +kernel
theorem dX8_sentence_29 : decode cX8_sentence 29 = .ok (.invokevirtual 224, 3) := by decide +kernel
theorem dX8_sentence_32 : decode cX8_sentence 32 = .ok (.aload_n 0, 1) := by decide +kernel
theorem dX8_sentence_33 : decode cX8_sentence 33 = .ok (.ldc_w 265, 3) := by decide +kernel
theorem dX8_sentence_36 : decode cX8_sentence 36 = .ok (.invokevirtual 267, 3) := by decide +kernel
theorem dX8_sentence_39 : decode cX8_sentence 39 = .ok (.aload_n 0, 1) := by decide +kernel
theorem dX8_sentence_40 : decode cX8_sentence 40 = .ok (.aload_n 2, 1) := by decide +kernel
theorem dX8_sentence_41 : decode cX8_sentence 41 = .ok (.getfield 171, 3) := by decide +kernel
theorem dX8_sentence_44 : decode cX8_sentence 44 = .ok (.invokevirtual 271, 3) := by decide +kernel
theorem dX8_sentence_47 : decode cX8_sentence 47 = .ok (.aload_n 0, 1) := by decide +kernel
theorem dX8_sentence_48 : decode cX8_sentence 48 = .ok (.ldc_w 274, 3) := by decide +kernel
theorem dX8_sentence_51 : decode cX8_sentence 51 = .ok (.invokevirtual 267, 3) := by decide +kernel
theorem dX8_sentence_54 : decode cX8_sentence 54 = .ok (.aload_n 0, 1) := by decide +kernel
theorem dX8_sentence_55 : decode cX8_sentence 55 = .ok (.aload_n 0, 1) := by decide +kernel
theorem dX8_sentence_56 : decode cX8_sentence 56 = .ok (.getfield 20, 3) := by decide +kernel
theorem dX8_sentence_59 : decode cX8_sentence 59 = .ok (.aload_n 2, 1) := by decide +kernel
theorem dX8_sentence_60 : decode cX8_sentence 60 = .ok (.getfield 155, 3) := by decide +kernel
theorem dX8_sentence_63 : decode cX8_sentence 63 = .ok (.aaload, 1) := by decide +kernel
theorem dX8_sentence_64 : decode cX8_sentence 64 = .ok (.invokeinterface 276 1, 5) := by decide +kernel
theorem dX8_sentence_69 : decode cX8_sentence 69 = .ok (.invokevirtual 267, 3) := by decide +kernel
theorem dX8_sentence_72 : decode cX8_sentence 72 = .ok (.iconst 0, 1) := by decide +kernel
theorem dX8_sentence_73 : decode cX8_sentence 73 = .ok (.istore_n 3, 1) := by decide +kernel
theorem dX8_sentence_74 : decode cX8_sentence 74 = .ok (.iload_n 3, 1) := by decide +kernel
theorem dX8_sentence_75 : decode cX8_sentence 75 = .ok (.aload_n 2, 1) := by decide +kernel
theorem dX8_sentence_76 : decode cX8_sentence 76 = .ok (.getfield 152, 3) := by decide +kernel
theorem dX8_sentence_79 : decode cX8_sentence 79 = .ok (.if_icmp .ge 36, 3) := by decide +kernel
theorem dX8_sentence_82 : decode cX8_sentence 82 = .ok (.aload_n 0, 1) := by decide +kernel
theorem dX8_sentence_83 : decode cX8_sentence 83 = .ok (.iload_n 3, 1) := by decide +kernel
theorem dX8_sentence_84 : decode cX8_sentence 84 = .ok (.ifCond .ne 9, 3) := by decide +kernel
theorem dX8_sentence_87 : decode cX8_sentence 87 = .ok (.ldc_w 280, 3) := by decide +kernel
theorem dX8_sentence_90 : decode cX8_sentence 90 = .ok (.goto 6, 3) := by decide +kernel
theorem dX8_sentence_93 : decode cX8_sentence 93 = .ok (.ldc_w 282, 3) := by decide +kernel
theorem dX8_sentence_96 : decode cX8_sentence 96 = .ok (.invokevirtual 267, 3) := by decide +kernel
theorem dX8_sentence_99 : decode cX8_sentence 99 = .ok (.aload_n 0, 1) := by decide +kernel
theorem dX8_sentence_100 : decode cX8_sentence 100 = .ok (.aload_n 2, 1) := by decide +kernel
theorem dX8_sentence_101 : decode cX8_sentence 101 = .ok (.getfield 150, 3) := by decide +kernel
theorem dX8_sentence_104 : decode cX8_sentence 104 = .ok (.iload_n 3, 1) := by decide +kernel
theorem dX8_sentence_105 : decode cX8_sentence 105 = .ok (.iaload, 1) := by decide +kernel
theorem dX8_sentence_106 : decode cX8_sentence 106 = .ok (.invokevirtual 224, 3) := by decide +kernel
theorem dX8_sentence_109 : decode cX8_sentence 109 = .ok (.iinc 3 1, 3) := by decide +kernel
theorem dX8_sentence_112 : decode cX8_sentence 112 = .ok (.goto (-38), 3) := by decide +kernel
theorem dX8_sentence_115 : decode cX8_sentence 115 = .ok (.aload_n 0, 1) := by decide +kernel
theorem dX8_sentence_116 : decode cX8_sentence 116 = .ok (.ldc_w 284, 3) := by decide +kernel
theorem dX8_sentence_119 : decode cX8_sentence 119 = .ok (.invokevirtual 267, 3) := by decide +kernel
theorem dX8_sentence_122 : decode cX8_sentence 122 = .ok (.aload_n 0, 1) := by decide +kernel
theorem dX8_sentence_123 : decode cX8_sentence 123 = .ok (.getfield 219, 3) := by decide +kernel
theorem dX8_sentence_126 : decode cX8_sentence 126 = .ok (.ireturn, 1) := by decide +kernel
abbrev cX8_sayNumber : ByteArray := prog_25_method_23_code
def yX8_sayNumber : MethodName := ⟨RX8, "sayNumber", "(I)V"⟩
theorem dX8_sayNumber_0 : decode cX8_sayNumber 0 = .ok (.iconst 1, 1) := by decide +kernel
theorem dX8_sayNumber_1 : decode cX8_sayNumber 1 = .ok (.istore_n 2, 1) := by decide +kernel
theorem dX8_sayNumber_2 : decode cX8_sayNumber 2 = .ok (.iload_n 1, 1) := by decide +kernel
theorem dX8_sayNumber_3 : decode cX8_sayNumber 3 = .ok (.iload_n 2, 1) := by decide +kernel
theorem dX8_sayNumber_4 : decode cX8_sayNumber 4 = .ok (.idiv, 1) := by decide +kernel
theorem dX8_sayNumber_5 : decode cX8_sayNumber 5 = .ok (.bipush 9, 2) := by decide +kernel
theorem dX8_sayNumber_7 : decode cX8_sayNumber 7 = .ok (.if_icmp .le 11, 3) := by decide +kernel
theorem dX8_sayNumber_10 : decode cX8_sayNumber 10 = .ok (.iload_n 2, 1) := by decide +kernel
theorem dX8_sayNumber_11 : decode cX8_sayNumber 11 = .ok (.bipush 10, 2) := by decide +kernel
theorem dX8_sayNumber_13 : decode cX8_sayNumber 13 = .ok (.imul, 1) := by decide +kernel
theorem dX8_sayNumber_14 : decode cX8_sayNumber 14 = .ok (.istore_n 2, 1) := by decide +kernel
theorem dX8_sayNumber_15 : decode cX8_sayNumber 15 = .ok (.goto (-13), 3) := by decide +kernel
theorem dX8_sayNumber_18 : decode cX8_sayNumber 18 = .ok (.iload_n 2, 1) := by decide +kernel
theorem dX8_sayNumber_19 : decode cX8_sayNumber 19 = .ok (.istore_n 3, 1) := by decide +kernel
theorem dX8_sayNumber_20 : decode cX8_sayNumber 20 = .ok (.iload_n 3, 1) := by decide +kernel
theorem dX8_sayNumber_21 : decode cX8_sayNumber 21 = .ok (.ifCond .le 40, 3) := by decide +kernel
theorem dX8_sayNumber_24 : decode cX8_sayNumber 24 = .ok (.aload_n 0, 1) := by decide +kernel
theorem dX8_sayNumber_25 : decode cX8_sayNumber 25 = .ok (.getfield 53, 3) := by decide +kernel
theorem dX8_sayNumber_28 : decode cX8_sayNumber 28 = .ok (.aload_n 0, 1) := by decide +kernel
theorem dX8_sayNumber_29 : decode cX8_sayNumber 29 = .ok (.getfield 219, 3) := by decide +kernel
theorem dX8_sayNumber_32 : decode cX8_sayNumber 32 = .ok (.bipush 48, 2) := by decide +kernel
theorem dX8_sayNumber_34 : decode cX8_sayNumber 34 = .ok (.iload_n 1, 1) := by decide +kernel
theorem dX8_sayNumber_35 : decode cX8_sayNumber 35 = .ok (.iload_n 3, 1) := by decide +kernel
theorem dX8_sayNumber_36 : decode cX8_sayNumber 36 = .ok (.idiv, 1) := by decide +kernel
theorem dX8_sayNumber_37 : decode cX8_sayNumber 37 = .ok (.bipush 10, 2) := by decide +kernel
theorem dX8_sayNumber_39 : decode cX8_sayNumber 39 = .ok (.irem, 1) := by decide +kernel
theorem dX8_sayNumber_40 : decode cX8_sayNumber 40 = .ok (.iadd, 1) := by decide +kernel
theorem dX8_sayNumber_41 : decode cX8_sayNumber 41 = .ok (.i2b, 1) := by decide +kernel
theorem dX8_sayNumber_42 : decode cX8_sayNumber 42 = .ok (.bastore, 1) := by decide +kernel
theorem dX8_sayNumber_43 : decode cX8_sayNumber 43 = .ok (.aload_n 0, 1) := by decide +kernel
theorem dX8_sayNumber_44 : decode cX8_sayNumber 44 = .ok (.dup, 1) := by decide +kernel
theorem dX8_sayNumber_45 : decode cX8_sayNumber 45 = .ok (.getfield 219, 3) := by decide +kernel
theorem dX8_sayNumber_48 : decode cX8_sayNumber 48 = .ok (.iconst 1, 1) := by decide +kernel
theorem dX8_sayNumber_49 : decode cX8_sayNumber 49 = .ok (.iadd, 1) := by decide +kernel
theorem dX8_sayNumber_50 : decode cX8_sayNumber 50 = .ok (.putfield 219, 3) := by decide +kernel
theorem dX8_sayNumber_53 : decode cX8_sayNumber 53 = .ok (.iload_n 3, 1) := by decide +kernel
theorem dX8_sayNumber_54 : decode cX8_sayNumber 54 = .ok (.bipush 10, 2) := by decide +kernel
theorem dX8_sayNumber_56 : decode cX8_sayNumber 56 = .ok (.idiv, 1) := by decide +kernel
theorem dX8_sayNumber_57 : decode cX8_sayNumber 57 = .ok (.istore_n 3, 1) := by decide +kernel
theorem dX8_sayNumber_58 : decode cX8_sayNumber 58 = .ok (.goto (-38), 3) := by decide +kernel
theorem dX8_sayNumber_61 : decode cX8_sayNumber 61 = .ok (.return_, 1) := by decide +kernel
abbrev cX8_say : ByteArray := prog_25_method_22_code
def yX8_say : MethodName := ⟨RX8, "say", "(Ljava/lang/String;)V"⟩
theorem dX8_say_0 : decode cX8_say 0 = .ok (.iconst 0, 1) := by decide +kernel
theorem dX8_say_1 : decode cX8_say 1 = .ok (.istore_n 2, 1) := by decide +kernel
theorem dX8_say_2 : decode cX8_say 2 = .ok (.iload_n 2, 1) := by decide +kernel
theorem dX8_say_3 : decode cX8_say 3 = .ok (.aload_n 1, 1) := by decide +kernel
theorem dX8_say_4 : decode cX8_say 4 = .ok (.invokevirtual 214, 3) := by decide +kernel
theorem dX8_say_7 : decode cX8_say 7 = .ok (.if_icmp .ge 34, 3) := by decide +kernel
theorem dX8_say_10 : decode cX8_say 10 = .ok (.aload_n 0, 1) := by decide +kernel
theorem dX8_say_11 : decode cX8_say 11 = .ok (.getfield 53, 3) := by decide +kernel
theorem dX8_say_14 : decode cX8_say 14 = .ok (.aload_n 0, 1) := by decide +kernel
theorem dX8_say_15 : decode cX8_say 15 = .ok (.getfield 219, 3) := by decide +kernel
theorem dX8_say_18 : decode cX8_say 18 = .ok (.aload_n 1, 1) := by decide +kernel
theorem dX8_say_19 : decode cX8_say 19 = .ok (.iload_n 2, 1) := by decide +kernel
theorem dX8_say_20 : decode cX8_say 20 = .ok (.invokevirtual 220, 3) := by decide +kernel
theorem dX8_say_23 : decode cX8_say 23 = .ok (.i2b, 1) := by decide +kernel
theorem dX8_say_24 : decode cX8_say 24 = .ok (.bastore, 1) := by decide +kernel
theorem dX8_say_25 : decode cX8_say 25 = .ok (.aload_n 0, 1) := by decide +kernel
theorem dX8_say_26 : decode cX8_say 26 = .ok (.dup, 1) := by decide +kernel
theorem dX8_say_27 : decode cX8_say 27 = .ok (.getfield 219, 3) := by decide +kernel
theorem dX8_say_30 : decode cX8_say 30 = .ok (.iconst 1, 1) := by decide +kernel
theorem dX8_say_31 : decode cX8_say 31 = .ok (.iadd, 1) := by decide +kernel
theorem dX8_say_32 : decode cX8_say 32 = .ok (.putfield 219, 3) := by decide +kernel
theorem dX8_say_35 : decode cX8_say 35 = .ok (.iinc 2 1, 3) := by decide +kernel
theorem dX8_say_38 : decode cX8_say 38 = .ok (.goto (-36), 3) := by decide +kernel
theorem dX8_say_41 : decode cX8_say 41 = .ok (.return_, 1) := by decide +kernel
abbrev cX8_sayStatement : ByteArray := prog_25_method_26_code
def yX8_sayStatement : MethodName := ⟨RX8, "sayStatement", "(LKnowHouse$ProofChecker$Statement;)V"⟩
theorem dX8_sayStatement_0 : decode cX8_sayStatement 0 = .ok (.aload_n 1, 1) := by decide +kernel
theorem dX8_sayStatement_1 : decode cX8_sayStatement 1 = .ok (.getfield 1, 3) := by decide +kernel
theorem dX8_sayStatement_4 : decode cX8_sayStatement 4 = .ok (.bipush 11, 2) := by decide +kernel
theorem dX8_sayStatement_6 : decode cX8_sayStatement 6 = .ok (.if_icmp .eq 25, 3) := by decide +kernel
theorem dX8_sayStatement_9 : decode cX8_sayStatement 9 = .ok (.aload_n 0, 1) := by decide +kernel
theorem dX8_sayStatement_10 : decode cX8_sayStatement 10 = .ok (.aload_n 1, 1) := by decide +kernel
theorem dX8_sayStatement_11 : decode cX8_sayStatement 11 = .ok (.getfield 1, 3) := by decide +kernel
theorem dX8_sayStatement_14 : decode cX8_sayStatement 14 = .ok (.invokestatic 251, 3) := by decide +kernel
theorem dX8_sayStatement_17 : decode cX8_sayStatement 17 = .ok (.aload_n 1, 1) := by decide +kernel
theorem dX8_sayStatement_18 : decode cX8_sayStatement 18 = .ok (.getfield 208, 3) := by decide +kernel
theorem dX8_sayStatement_21 : decode cX8_sayStatement 21 = .ok (.aload_n 1, 1) := by decide +kernel
theorem dX8_sayStatement_22 : decode cX8_sayStatement 22 = .ok (.getfield 9, 3) := by decide +kernel
theorem dX8_sayStatement_25 : decode cX8_sayStatement 25 = .ok (.invokevirtual 255, 3) := by decide +kernel
theorem dX8_sayStatement_28 : decode cX8_sayStatement 28 = .ok (.goto 72, 3) := by decide +kernel
theorem dX8_sayStatement_31 : decode cX8_sayStatement 31 = .ok (.aload_n 1, 1) := by decide +kernel
theorem dX8_sayStatement_32 : decode cX8_sayStatement 32 = .ok (.getfield 9, 3) := by decide +kernel
theorem dX8_sayStatement_35 : decode cX8_sayStatement 35 = .ok (.ifCond .eq 11, 3) := by decide +kernel
theorem dX8_sayStatement_38 : decode cX8_sayStatement 38 = .ok (.aload_n 1, 1) := by decide +kernel
theorem dX8_sayStatement_39 : decode cX8_sayStatement 39 = .ok (.getfield 9, 3) := by decide +kernel
theorem dX8_sayStatement_42 : decode cX8_sayStatement 42 = .ok (.iconst 1, 1) := by decide +kernel
theorem dX8_sayStatement_43 : decode cX8_sayStatement 43 = .ok (.if_icmp .ne 34, 3) := by decide +kernel
theorem dX8_sayStatement_46 : decode cX8_sayStatement 46 = .ok (.aload_n 0, 1) := by decide +kernel
theorem dX8_sayStatement_47 : decode cX8_sayStatement 47 = .ok (.aload_n 1, 1) := by decide +kernel
theorem dX8_sayStatement_48 : decode cX8_sayStatement 48 = .ok (.getfield 9, 3) := by decide +kernel
theorem dX8_sayStatement_51 : decode cX8_sayStatement 51 = .ok (.ifCond .ne 9, 3) := by decide +kernel
theorem dX8_sayStatement_54 : decode cX8_sayStatement 54 = .ok (.ldc_w 259, 3) := by decide +kernel
theorem dX8_sayStatement_57 : decode cX8_sayStatement 57 = .ok (.goto 6, 3) := by decide +kernel
theorem dX8_sayStatement_60 : decode cX8_sayStatement 60 = .ok (.ldc_w 261, 3) := by decide +kernel
theorem dX8_sayStatement_63 : decode cX8_sayStatement 63 = .ok (.aload_n 1, 1) := by decide +kernel
theorem dX8_sayStatement_64 : decode cX8_sayStatement 64 = .ok (.getfield 208, 3) := by decide +kernel
theorem dX8_sayStatement_67 : decode cX8_sayStatement 67 = .ok (.aload_n 1, 1) := by decide +kernel
theorem dX8_sayStatement_68 : decode cX8_sayStatement 68 = .ok (.getfield 211, 3) := by decide +kernel
theorem dX8_sayStatement_71 : decode cX8_sayStatement 71 = .ok (.invokevirtual 255, 3) := by decide +kernel
theorem dX8_sayStatement_74 : decode cX8_sayStatement 74 = .ok (.goto 26, 3) := by decide +kernel
theorem dX8_sayStatement_77 : decode cX8_sayStatement 77 = .ok (.aload_n 0, 1) := by decide +kernel
theorem dX8_sayStatement_78 : decode cX8_sayStatement 78 = .ok (.ldc_w 263, 3) := by decide +kernel
theorem dX8_sayStatement_81 : decode cX8_sayStatement 81 = .ok (.aload_n 1, 1) := by decide +kernel
theorem dX8_sayStatement_82 : decode cX8_sayStatement 82 = .ok (.getfield 208, 3) := by decide +kernel
theorem dX8_sayStatement_85 : decode cX8_sayStatement 85 = .ok (.aload_n 1, 1) := by decide +kernel
theorem dX8_sayStatement_86 : decode cX8_sayStatement 86 = .ok (.getfield 9, 3) := by decide +kernel
theorem dX8_sayStatement_89 : decode cX8_sayStatement 89 = .ok (.invokevirtual 255, 3) := by decide +kernel
theorem dX8_sayStatement_92 : decode cX8_sayStatement 92 = .ok (.aload_n 0, 1) := by decide +kernel
theorem dX8_sayStatement_93 : decode cX8_sayStatement 93 = .ok (.aload_n 1, 1) := by decide +kernel
theorem dX8_sayStatement_94 : decode cX8_sayStatement 94 = .ok (.getfield 211, 3) := by decide +kernel
theorem dX8_sayStatement_97 : decode cX8_sayStatement 97 = .ok (.invokevirtual 224, 3) := by decide +kernel
theorem dX8_sayStatement_100 : decode cX8_sayStatement 100 = .ok (.return_, 1) := by decide +kernel
abbrev cX8_pattern : ByteArray := prog_25_method_25_code
def yX8_pattern : MethodName := ⟨RX8, "pattern", "(I)Ljava/lang/String;"⟩
theorem dX8_pattern_0 : decode cX8_pattern 0 = .ok (.iload_n 0, 1) := by decide +kernel
theorem dX8_pattern_1 : decode cX8_pattern 1 = .ok (.tableswitch 96 1 12 #[63, 66, 69, 72, 75, 78, 81, 84, 87, 90, 96, 93], 63) := by decide +kernel
theorem dX8_pattern_64 : decode cX8_pattern 64 = .ok (.ldc 227, 2) := by decide +kernel
theorem dX8_pattern_66 : decode cX8_pattern 66 = .ok (.areturn, 1) := by decide +kernel
theorem dX8_pattern_67 : decode cX8_pattern 67 = .ok (.ldc 229, 2) := by decide +kernel
theorem dX8_pattern_69 : decode cX8_pattern 69 = .ok (.areturn, 1) := by decide +kernel
theorem dX8_pattern_70 : decode cX8_pattern 70 = .ok (.ldc 231, 2) := by decide +kernel
theorem dX8_pattern_72 : decode cX8_pattern 72 = .ok (.areturn, 1) := by decide +kernel
theorem dX8_pattern_73 : decode cX8_pattern 73 = .ok (.ldc 233, 2) := by decide +kernel
theorem dX8_pattern_75 : decode cX8_pattern 75 = .ok (.areturn, 1) := by decide +kernel
theorem dX8_pattern_76 : decode cX8_pattern 76 = .ok (.ldc 235, 2) := by decide +kernel
theorem dX8_pattern_78 : decode cX8_pattern 78 = .ok (.areturn, 1) := by decide +kernel
theorem dX8_pattern_79 : decode cX8_pattern 79 = .ok (.ldc 237, 2) := by decide +kernel
theorem dX8_pattern_81 : decode cX8_pattern 81 = .ok (.areturn, 1) := by decide +kernel
theorem dX8_pattern_82 : decode cX8_pattern 82 = .ok (.ldc 239, 2) := by decide +kernel
theorem dX8_pattern_84 : decode cX8_pattern 84 = .ok (.areturn, 1) := by decide +kernel
theorem dX8_pattern_85 : decode cX8_pattern 85 = .ok (.ldc 241, 2) := by decide +kernel
theorem dX8_pattern_87 : decode cX8_pattern 87 = .ok (.areturn, 1) := by decide +kernel
theorem dX8_pattern_88 : decode cX8_pattern 88 = .ok (.ldc 243, 2) := by decide +kernel
theorem dX8_pattern_90 : decode cX8_pattern 90 = .ok (.areturn, 1) := by decide +kernel
theorem dX8_pattern_91 : decode cX8_pattern 91 = .ok (.ldc 245, 2) := by decide +kernel
theorem dX8_pattern_93 : decode cX8_pattern 93 = .ok (.areturn, 1) := by decide +kernel
theorem dX8_pattern_94 : decode cX8_pattern 94 = .ok (.ldc 247, 2) := by decide +kernel
theorem dX8_pattern_96 : decode cX8_pattern 96 = .ok (.areturn, 1) := by decide +kernel
theorem dX8_pattern_97 : decode cX8_pattern 97 = .ok (.ldc 249, 2) := by decide +kernel
theorem dX8_pattern_99 : decode cX8_pattern 99 = .ok (.areturn, 1) := by decide +kernel
abbrev cX8_sayWith : ByteArray := prog_25_method_24_code
def yX8_sayWith : MethodName := ⟨RX8, "sayWith", "(Ljava/lang/String;II)V"⟩
theorem dX8_sayWith_0 : decode cX8_sayWith 0 = .ok (.iconst 0, 1) := by decide +kernel
theorem dX8_sayWith_1 : decode cX8_sayWith 1 = .ok (.istore 4, 2) := by decide +kernel
theorem dX8_sayWith_3 : decode cX8_sayWith 3 = .ok (.iload 4, 2) := by decide +kernel
theorem dX8_sayWith_5 : decode cX8_sayWith 5 = .ok (.aload_n 1, 1) := by decide +kernel
theorem dX8_sayWith_6 : decode cX8_sayWith 6 = .ok (.invokevirtual 214, 3) := by decide +kernel
theorem dX8_sayWith_9 : decode cX8_sayWith 9 = .ok (.if_icmp .ge 69, 3) := by decide +kernel
theorem dX8_sayWith_12 : decode cX8_sayWith 12 = .ok (.aload_n 1, 1) := by decide +kernel
theorem dX8_sayWith_13 : decode cX8_sayWith 13 = .ok (.iload 4, 2) := by decide +kernel
theorem dX8_sayWith_15 : decode cX8_sayWith 15 = .ok (.invokevirtual 220, 3) := by decide +kernel
theorem dX8_sayWith_18 : decode cX8_sayWith 18 = .ok (.istore 5, 2) := by decide +kernel
theorem dX8_sayWith_20 : decode cX8_sayWith 20 = .ok (.iload 5, 2) := by decide +kernel
theorem dX8_sayWith_22 : decode cX8_sayWith 22 = .ok (.bipush 65, 2) := by decide +kernel
theorem dX8_sayWith_24 : decode cX8_sayWith 24 = .ok (.if_icmp .ne 11, 3) := by decide +kernel
theorem dX8_sayWith_27 : decode cX8_sayWith 27 = .ok (.aload_n 0, 1) := by decide +kernel
theorem dX8_sayWith_28 : decode cX8_sayWith 28 = .ok (.iload_n 2, 1) := by decide +kernel
theorem dX8_sayWith_29 : decode cX8_sayWith 29 = .ok (.invokevirtual 224, 3) := by decide +kernel
theorem dX8_sayWith_32 : decode cX8_sayWith 32 = .ok (.goto 40, 3) := by decide +kernel
theorem dX8_sayWith_35 : decode cX8_sayWith 35 = .ok (.iload 5, 2) := by decide +kernel
theorem dX8_sayWith_37 : decode cX8_sayWith 37 = .ok (.bipush 66, 2) := by decide +kernel
theorem dX8_sayWith_39 : decode cX8_sayWith 39 = .ok (.if_icmp .ne 11, 3) := by decide +kernel
theorem dX8_sayWith_42 : decode cX8_sayWith 42 = .ok (.aload_n 0, 1) := by decide +kernel
theorem dX8_sayWith_43 : decode cX8_sayWith 43 = .ok (.iload_n 3, 1) := by decide +kernel
theorem dX8_sayWith_44 : decode cX8_sayWith 44 = .ok (.invokevirtual 224, 3) := by decide +kernel
theorem dX8_sayWith_47 : decode cX8_sayWith 47 = .ok (.goto 25, 3) := by decide +kernel
theorem dX8_sayWith_50 : decode cX8_sayWith 50 = .ok (.aload_n 0, 1) := by decide +kernel
theorem dX8_sayWith_51 : decode cX8_sayWith 51 = .ok (.getfield 53, 3) := by decide +kernel
theorem dX8_sayWith_54 : decode cX8_sayWith 54 = .ok (.aload_n 0, 1) := by decide +kernel
theorem dX8_sayWith_55 : decode cX8_sayWith 55 = .ok (.getfield 219, 3) := by decide +kernel
theorem dX8_sayWith_58 : decode cX8_sayWith 58 = .ok (.iload 5, 2) := by decide +kernel
theorem dX8_sayWith_60 : decode cX8_sayWith 60 = .ok (.i2b, 1) := by decide +kernel
theorem dX8_sayWith_61 : decode cX8_sayWith 61 = .ok (.bastore, 1) := by decide +kernel
theorem dX8_sayWith_62 : decode cX8_sayWith 62 = .ok (.aload_n 0, 1) := by decide +kernel
theorem dX8_sayWith_63 : decode cX8_sayWith 63 = .ok (.dup, 1) := by decide +kernel
theorem dX8_sayWith_64 : decode cX8_sayWith 64 = .ok (.getfield 219, 3) := by decide +kernel
theorem dX8_sayWith_67 : decode cX8_sayWith 67 = .ok (.iconst 1, 1) := by decide +kernel
theorem dX8_sayWith_68 : decode cX8_sayWith 68 = .ok (.iadd, 1) := by decide +kernel
theorem dX8_sayWith_69 : decode cX8_sayWith 69 = .ok (.putfield 219, 3) := by decide +kernel
theorem dX8_sayWith_72 : decode cX8_sayWith 72 = .ok (.iinc 4 1, 3) := by decide +kernel
theorem dX8_sayWith_75 : decode cX8_sayWith 75 = .ok (.goto (-72), 3) := by decide +kernel
theorem dX8_sayWith_78 : decode cX8_sayWith 78 = .ok (.return_, 1) := by decide +kernel
abbrev cX8_at : ByteArray := prog_25_method_28_code
def yX8_at : MethodName := ⟨RX8, "at", "(I)I"⟩
theorem dX8_at_0 : decode cX8_at 0 = .ok (.iload_n 1, 1) := by decide +kernel
theorem dX8_at_1 : decode cX8_at 1 = .ok (.ifCond .lt 20, 3) := by decide +kernel
theorem dX8_at_4 : decode cX8_at 4 = .ok (.iload_n 1, 1) := by decide +kernel
theorem dX8_at_5 : decode cX8_at 5 = .ok (.aload_n 0, 1) := by decide +kernel
theorem dX8_at_6 : decode cX8_at 6 = .ok (.getfield 219, 3) := by decide +kernel
theorem dX8_at_9 : decode cX8_at 9 = .ok (.if_icmp .ge 12, 3) := by decide +kernel
theorem dX8_at_12 : decode cX8_at 12 = .ok (.aload_n 0, 1) := by decide +kernel
theorem dX8_at_13 : decode cX8_at 13 = .ok (.getfield 53, 3) := by decide +kernel
theorem dX8_at_16 : decode cX8_at 16 = .ok (.iload_n 1, 1) := by decide +kernel
theorem dX8_at_17 : decode cX8_at 17 = .ok (.baload, 1) := by decide +kernel
theorem dX8_at_18 : decode cX8_at 18 = .ok (.goto 5, 3) := by decide +kernel
theorem dX8_at_21 : decode cX8_at 21 = .ok (.bipush (-2), 2) := by decide +kernel
theorem dX8_at_23 : decode cX8_at 23 = .ok (.ireturn, 1) := by decide +kernel
abbrev cX8_concludes : ByteArray := prog_25_method_21_code
def yX8_concludes : MethodName := ⟨RX8, "concludes", "(II)Z"⟩
theorem dX8_concludes_0 : decode cX8_concludes 0 = .ok (.aload_n 0, 1) := by decide +kernel
theorem dX8_concludes_1 : decode cX8_concludes 1 = .ok (.iload_n 1, 1) := by decide +kernel
theorem dX8_concludes_2 : decode cX8_concludes 2 = .ok (.invokevirtual 140, 3) := by decide +kernel
theorem dX8_concludes_5 : decode cX8_concludes 5 = .ok (.ifCond .eq 16, 3) := by decide +kernel
theorem dX8_concludes_8 : decode cX8_concludes 8 = .ok (.iload_n 2, 1) := by decide +kernel
theorem dX8_concludes_9 : decode cX8_concludes 9 = .ok (.iconst 1, 1) := by decide +kernel
theorem dX8_concludes_10 : decode cX8_concludes 10 = .ok (.if_icmp .lt 11, 3) := by decide +kernel
theorem dX8_concludes_13 : decode cX8_concludes 13 = .ok (.iload_n 2, 1) := by decide +kernel
theorem dX8_concludes_14 : decode cX8_concludes 14 = .ok (.aload_n 0, 1) := by decide +kernel
theorem dX8_concludes_15 : decode cX8_concludes 15 = .ok (.getfield 122, 3) := by decide +kernel
theorem dX8_concludes_18 : decode cX8_concludes 18 = .ok (.if_icmp .le 5, 3) := by decide +kernel
theorem dX8_concludes_21 : decode cX8_concludes 21 = .ok (.iconst 0, 1) := by decide +kernel
theorem dX8_concludes_22 : decode cX8_concludes 22 = .ok (.ireturn, 1) := by decide +kernel
theorem dX8_concludes_23 : decode cX8_concludes 23 = .ok (.aload_n 0, 1) := by decide +kernel
theorem dX8_concludes_24 : decode cX8_concludes 24 = .ok (.iload_n 1, 1) := by decide +kernel
theorem dX8_concludes_25 : decode cX8_concludes 25 = .ok (.invokevirtual 189, 3) := by decide +kernel
theorem dX8_concludes_28 : decode cX8_concludes 28 = .ok (.aload_n 0, 1) := by decide +kernel
theorem dX8_concludes_29 : decode cX8_concludes 29 = .ok (.getfield 38, 3) := by decide +kernel
theorem dX8_concludes_32 : decode cX8_concludes 32 = .ok (.iload_n 1, 1) := by decide +kernel
theorem dX8_concludes_33 : decode cX8_concludes 33 = .ok (.aaload, 1) := by decide +kernel
theorem dX8_concludes_34 : decode cX8_concludes 34 = .ok (.getfield 167, 3) := by decide +kernel
theorem dX8_concludes_37 : decode cX8_concludes 37 = .ok (.ifCond .eq 30, 3) := by decide +kernel
theorem dX8_concludes_40 : decode cX8_concludes 40 = .ok (.aload_n 0, 1) := by decide +kernel
theorem dX8_concludes_41 : decode cX8_concludes 41 = .ok (.getfield 38, 3) := by decide +kernel
theorem dX8_concludes_44 : decode cX8_concludes 44 = .ok (.iload_n 1, 1) := by decide +kernel
theorem dX8_concludes_45 : decode cX8_concludes 45 = .ok (.aaload, 1) := by decide +kernel
theorem dX8_concludes_46 : decode cX8_concludes 46 = .ok (.getfield 171, 3) := by decide +kernel
theorem dX8_concludes_49 : decode cX8_concludes 49 = .ok (.aload_n 0, 1) := by decide +kernel
theorem dX8_concludes_50 : decode cX8_concludes 50 = .ok (.getfield 28, 3) := by decide +kernel
theorem dX8_concludes_53 : decode cX8_concludes 53 = .ok (.iload_n 2, 1) := by decide +kernel
theorem dX8_concludes_54 : decode cX8_concludes 54 = .ok (.iconst 1, 1) := by decide +kernel
theorem dX8_concludes_55 : decode cX8_concludes 55 = .ok (.isub, 1) := by decide +kernel
theorem dX8_concludes_56 : decode cX8_concludes 56 = .ok (.aaload, 1) := by decide +kernel
theorem dX8_concludes_57 : decode cX8_concludes 57 = .ok (.invokevirtual 125, 3) := by decide +kernel
theorem dX8_concludes_60 : decode cX8_concludes 60 = .ok (.ifCond .eq 7, 3) := by decide +kernel
theorem dX8_concludes_63 : decode cX8_concludes 63 = .ok (.iconst 1, 1) := by decide +kernel
theorem dX8_concludes_64 : decode cX8_concludes 64 = .ok (.goto 4, 3) := by decide +kernel
theorem dX8_concludes_67 : decode cX8_concludes 67 = .ok (.iconst 0, 1) := by decide +kernel
theorem dX8_concludes_68 : decode cX8_concludes 68 = .ok (.ireturn, 1) := by decide +kernel
theorem in_X8 : ∀ w ∈ wsX80, w ∈ lw_all := lw_in wsX80 [1207, 1209, 1211, 1213, 1215, 1217, 1219, 1221, 1223, 1225, 1227, 1229, 1231, 1233, 1235] (by decide +kernel) (by decide +kernel)
def RX9 : String := "KnowHouse$ProofChecker$Statement"
def TX9 : u_T := fun k => match k with
  | 0 => ("KnowHouse$ProofChecker$Statement", "kind", "I", false)
  | 1 => ("KnowHouse$ProofChecker$Statement", "a", "I", false)
  | 2 => ("KnowHouse$ProofChecker$Statement", "b", "I", false)
  | _ => ("KnowHouse$ProofChecker$Statement", "c", "I", false)
def tyX9 : Nat → FieldType := fun k => match k with
  | 0 => .int
  | 1 => .int
  | 2 => .int
  | _ => .int
abbrev wsX90 : List Cond := u_ws RX9 TX9 4
theorem nmX9 : ∀ a, a < 4 → ∀ b, b < 4 → a ≠ b → (TX9 a).2.1 ≠ (TX9 b).2.1 := by decide +kernel
theorem tyX9_ok : ∀ k, k < 4 → parseFieldDescriptor (TX9 k).2.2.1 = some (tyX9 k) := by decide +kernel
abbrev cX9_init : ByteArray := prog_41_method_1_code
def yX9_init : MethodName := ⟨RX9, "<init>", "()V"⟩
theorem dX9_init_0 : decode cX9_init 0 = .ok (.aload_n 0, 1) := by decide +kernel
theorem dX9_init_1 : decode cX9_init 1 = .ok (.invokespecial 1, 3) := by decide +kernel
theorem dX9_init_4 : decode cX9_init 4 = .ok (.return_, 1) := by decide +kernel
abbrev cX9_set : ByteArray := prog_41_method_2_code
def yX9_set : MethodName := ⟨RX9, "set", "(IIII)V"⟩
theorem dX9_set_0 : decode cX9_set 0 = .ok (.aload_n 0, 1) := by decide +kernel
theorem dX9_set_1 : decode cX9_set 1 = .ok (.iload_n 1, 1) := by decide +kernel
theorem dX9_set_2 : decode cX9_set 2 = .ok (.putfield 7, 3) := by decide +kernel
theorem dX9_set_5 : decode cX9_set 5 = .ok (.aload_n 0, 1) := by decide +kernel
theorem dX9_set_6 : decode cX9_set 6 = .ok (.iload_n 2, 1) := by decide +kernel
theorem dX9_set_7 : decode cX9_set 7 = .ok (.putfield 13, 3) := by decide +kernel
theorem dX9_set_10 : decode cX9_set 10 = .ok (.aload_n 0, 1) := by decide +kernel
theorem dX9_set_11 : decode cX9_set 11 = .ok (.iload_n 3, 1) := by decide +kernel
theorem dX9_set_12 : decode cX9_set 12 = .ok (.putfield 16, 3) := by decide +kernel
theorem dX9_set_15 : decode cX9_set 15 = .ok (.aload_n 0, 1) := by decide +kernel
theorem dX9_set_16 : decode cX9_set 16 = .ok (.iload 4, 2) := by decide +kernel
theorem dX9_set_18 : decode cX9_set 18 = .ok (.putfield 19, 3) := by decide +kernel
theorem dX9_set_21 : decode cX9_set 21 = .ok (.return_, 1) := by decide +kernel
abbrev cX9_is : ByteArray := prog_41_method_4_code
def yX9_is : MethodName := ⟨RX9, "is", "(LKnowHouse$ProofChecker$Statement;)Z"⟩
theorem dX9_is_0 : decode cX9_is 0 = .ok (.aload_n 0, 1) := by decide +kernel
theorem dX9_is_1 : decode cX9_is 1 = .ok (.getfield 7, 3) := by decide +kernel
theorem dX9_is_4 : decode cX9_is 4 = .ok (.aload_n 1, 1) := by decide +kernel
theorem dX9_is_5 : decode cX9_is 5 = .ok (.getfield 7, 3) := by decide +kernel
theorem dX9_is_8 : decode cX9_is 8 = .ok (.if_icmp .ne 40, 3) := by decide +kernel
theorem dX9_is_11 : decode cX9_is 11 = .ok (.aload_n 0, 1) := by decide +kernel
theorem dX9_is_12 : decode cX9_is 12 = .ok (.getfield 13, 3) := by decide +kernel
theorem dX9_is_15 : decode cX9_is 15 = .ok (.aload_n 1, 1) := by decide +kernel
theorem dX9_is_16 : decode cX9_is 16 = .ok (.getfield 13, 3) := by decide +kernel
theorem dX9_is_19 : decode cX9_is 19 = .ok (.if_icmp .ne 29, 3) := by decide +kernel
theorem dX9_is_22 : decode cX9_is 22 = .ok (.aload_n 0, 1) := by decide +kernel
theorem dX9_is_23 : decode cX9_is 23 = .ok (.getfield 16, 3) := by decide +kernel
theorem dX9_is_26 : decode cX9_is 26 = .ok (.aload_n 1, 1) := by decide +kernel
theorem dX9_is_27 : decode cX9_is 27 = .ok (.getfield 16, 3) := by decide +kernel
theorem dX9_is_30 : decode cX9_is 30 = .ok (.if_icmp .ne 18, 3) := by decide +kernel
theorem dX9_is_33 : decode cX9_is 33 = .ok (.aload_n 0, 1) := by decide +kernel
theorem dX9_is_34 : decode cX9_is 34 = .ok (.getfield 19, 3) := by decide +kernel
theorem dX9_is_37 : decode cX9_is 37 = .ok (.aload_n 1, 1) := by decide +kernel
theorem dX9_is_38 : decode cX9_is 38 = .ok (.getfield 19, 3) := by decide +kernel
theorem dX9_is_41 : decode cX9_is 41 = .ok (.if_icmp .ne 7, 3) := by decide +kernel
theorem dX9_is_44 : decode cX9_is 44 = .ok (.iconst 1, 1) := by decide +kernel
theorem dX9_is_45 : decode cX9_is 45 = .ok (.goto 4, 3) := by decide +kernel
theorem dX9_is_48 : decode cX9_is 48 = .ok (.iconst 0, 1) := by decide +kernel
theorem dX9_is_49 : decode cX9_is 49 = .ok (.ireturn, 1) := by decide +kernel
abbrev cX9_copy : ByteArray := prog_41_method_3_code
def yX9_copy : MethodName := ⟨RX9, "copy", "(LKnowHouse$ProofChecker$Statement;)V"⟩
theorem dX9_copy_0 : decode cX9_copy 0 = .ok (.aload_n 0, 1) := by decide +kernel
theorem dX9_copy_1 : decode cX9_copy 1 = .ok (.aload_n 1, 1) := by decide +kernel
theorem dX9_copy_2 : decode cX9_copy 2 = .ok (.getfield 7, 3) := by decide +kernel
theorem dX9_copy_5 : decode cX9_copy 5 = .ok (.aload_n 1, 1) := by decide +kernel
theorem dX9_copy_6 : decode cX9_copy 6 = .ok (.getfield 13, 3) := by decide +kernel
theorem dX9_copy_9 : decode cX9_copy 9 = .ok (.aload_n 1, 1) := by decide +kernel
theorem dX9_copy_10 : decode cX9_copy 10 = .ok (.getfield 16, 3) := by decide +kernel
theorem dX9_copy_13 : decode cX9_copy 13 = .ok (.aload_n 1, 1) := by decide +kernel
theorem dX9_copy_14 : decode cX9_copy 14 = .ok (.getfield 19, 3) := by decide +kernel
theorem dX9_copy_17 : decode cX9_copy 17 = .ok (.invokevirtual 22, 3) := by decide +kernel
theorem dX9_copy_20 : decode cX9_copy 20 = .ok (.return_, 1) := by decide +kernel
theorem in_X9 : ∀ w ∈ wsX90, w ∈ lw_all := lw_in wsX90 [971, 973, 975, 977] (by decide +kernel) (by decide +kernel)
def RX26 : String := "KnowHouse$ProofChecker$Row"
def TX26 : u_T := fun k => match k with
  | 0 => ("KnowHouse$ProofChecker$Row", "rule", "I", false)
  | 1 => ("KnowHouse$ProofChecker$Row", "instance", "I", false)
  | 2 => ("KnowHouse$ProofChecker$Row", "premises", "[I", true)
  | 3 => ("KnowHouse$ProofChecker$Row", "count", "I", false)
  | 4 => ("KnowHouse$ProofChecker$Row", "states", "LKnowHouse$ProofChecker$Statement;", true)
  | 5 => ("KnowHouse$ProofChecker$Row", "right", "Z", false)
  | _ => ("KnowHouse$ProofChecker$Row", "size", "I", false)
def tyX26 : Nat → FieldType := fun k => match k with
  | 0 => .int
  | 1 => .int
  | 2 => .array .int
  | 3 => .int
  | 4 => .object "KnowHouse$ProofChecker$Statement"
  | 5 => .boolean
  | _ => .int
abbrev wsX260 : List Cond := u_ws RX26 TX26 7
theorem nmX26 : ∀ a, a < 7 → ∀ b, b < 7 → a ≠ b → (TX26 a).2.1 ≠ (TX26 b).2.1 := by decide +kernel
theorem tyX26_ok : ∀ k, k < 7 → parseFieldDescriptor (TX26 k).2.2.1 = some (tyX26 k) := by decide +kernel
abbrev cX26_init : ByteArray := prog_39_method_1_code
def yX26_init : MethodName := ⟨RX26, "<init>", "()V"⟩
theorem dX26_init_0 : decode cX26_init 0 = .ok (.aload_n 0, 1) := by decide +kernel
theorem dX26_init_1 : decode cX26_init 1 = .ok (.invokespecial 1, 3) := by decide +kernel
theorem dX26_init_4 : decode cX26_init 4 = .ok (.aload_n 0, 1) := by decide +kernel
theorem dX26_init_5 : decode cX26_init 5 = .ok (.iconst 3, 1) := by decide +kernel
theorem dX26_init_6 : decode cX26_init 6 = .ok (.newarray .int, 2) := by decide +kernel
theorem dX26_init_8 : decode cX26_init 8 = .ok (.putfield 7, 3) := by decide +kernel
theorem dX26_init_11 : decode cX26_init 11 = .ok (.aload_n 0, 1) := by decide +kernel
theorem dX26_init_12 : decode cX26_init 12 = .ok (.new 13, 3) := by decide +kernel
theorem dX26_init_15 : decode cX26_init 15 = .ok (.dup, 1) := by decide +kernel
theorem dX26_init_16 : decode cX26_init 16 = .ok (.invokespecial 15, 3) := by decide +kernel
theorem dX26_init_19 : decode cX26_init 19 = .ok (.putfield 16, 3) := by decide +kernel
theorem dX26_init_22 : decode cX26_init 22 = .ok (.return_, 1) := by decide +kernel
abbrev cX26_set : ByteArray := prog_39_method_2_code
def yX26_set : MethodName := ⟨RX26, "set", "(II)V"⟩
theorem dX26_set_0 : decode cX26_set 0 = .ok (.aload_n 0, 1) := by decide +kernel
theorem dX26_set_1 : decode cX26_set 1 = .ok (.iload_n 1, 1) := by decide +kernel
theorem dX26_set_2 : decode cX26_set 2 = .ok (.putfield 20, 3) := by decide +kernel
theorem dX26_set_5 : decode cX26_set 5 = .ok (.aload_n 0, 1) := by decide +kernel
theorem dX26_set_6 : decode cX26_set 6 = .ok (.iload_n 2, 1) := by decide +kernel
theorem dX26_set_7 : decode cX26_set 7 = .ok (.putfield 24, 3) := by decide +kernel
theorem dX26_set_10 : decode cX26_set 10 = .ok (.aload_n 0, 1) := by decide +kernel
theorem dX26_set_11 : decode cX26_set 11 = .ok (.iconst 0, 1) := by decide +kernel
theorem dX26_set_12 : decode cX26_set 12 = .ok (.putfield 27, 3) := by decide +kernel
theorem dX26_set_15 : decode cX26_set 15 = .ok (.return_, 1) := by decide +kernel
abbrev cX26_take : ByteArray := prog_39_method_3_code
def yX26_take : MethodName := ⟨RX26, "take", "(LKnowHouse$ProofChecker$Row;)V"⟩
theorem dX26_take_0 : decode cX26_take 0 = .ok (.aload_n 0, 1) := by decide +kernel
theorem dX26_take_1 : decode cX26_take 1 = .ok (.aload_n 1, 1) := by decide +kernel
theorem dX26_take_2 : decode cX26_take 2 = .ok (.getfield 20, 3) := by decide +kernel
theorem dX26_take_5 : decode cX26_take 5 = .ok (.aload_n 1, 1) := by decide +kernel
theorem dX26_take_6 : decode cX26_take 6 = .ok (.getfield 24, 3) := by decide +kernel
theorem dX26_take_9 : decode cX26_take 9 = .ok (.invokevirtual 30, 3) := by decide +kernel
theorem dX26_take_12 : decode cX26_take 12 = .ok (.aload_n 0, 1) := by decide +kernel
theorem dX26_take_13 : decode cX26_take 13 = .ok (.aload_n 1, 1) := by decide +kernel
theorem dX26_take_14 : decode cX26_take 14 = .ok (.getfield 27, 3) := by decide +kernel
theorem dX26_take_17 : decode cX26_take 17 = .ok (.putfield 27, 3) := by decide +kernel
theorem dX26_take_20 : decode cX26_take 20 = .ok (.iconst 0, 1) := by decide +kernel
theorem dX26_take_21 : decode cX26_take 21 = .ok (.istore_n 2, 1) := by decide +kernel
theorem dX26_take_22 : decode cX26_take 22 = .ok (.iload_n 2, 1) := by decide +kernel
theorem dX26_take_23 : decode cX26_take 23 = .ok (.aload_n 0, 1) := by decide +kernel
theorem dX26_take_24 : decode cX26_take 24 = .ok (.getfield 27, 3) := by decide +kernel
theorem dX26_take_27 : decode cX26_take 27 = .ok (.if_icmp .ge 21, 3) := by decide +kernel
theorem dX26_take_30 : decode cX26_take 30 = .ok (.aload_n 0, 1) := by decide +kernel
theorem dX26_take_31 : decode cX26_take 31 = .ok (.getfield 7, 3) := by decide +kernel
theorem dX26_take_34 : decode cX26_take 34 = .ok (.iload_n 2, 1) := by decide +kernel
theorem dX26_take_35 : decode cX26_take 35 = .ok (.aload_n 1, 1) := by decide +kernel
theorem dX26_take_36 : decode cX26_take 36 = .ok (.getfield 7, 3) := by decide +kernel
theorem dX26_take_39 : decode cX26_take 39 = .ok (.iload_n 2, 1) := by decide +kernel
theorem dX26_take_40 : decode cX26_take 40 = .ok (.iaload, 1) := by decide +kernel
theorem dX26_take_41 : decode cX26_take 41 = .ok (.iastore, 1) := by decide +kernel
theorem dX26_take_42 : decode cX26_take 42 = .ok (.iinc 2 1, 3) := by decide +kernel
theorem dX26_take_45 : decode cX26_take 45 = .ok (.goto (-23), 3) := by decide +kernel
theorem dX26_take_48 : decode cX26_take 48 = .ok (.return_, 1) := by decide +kernel
theorem in_X26 : ∀ w ∈ wsX260, w ∈ lw_all := lw_in wsX260 [1175, 1177, 1179, 1181, 1183, 1185, 1187] (by decide +kernel) (by decide +kernel)
def RX11 : String := "KnowHouse$ProofChecker$Axiom"
def TX11 : u_T := fun k => match k with
  | 0 => ("KnowHouse$ProofChecker$Plain", "takes", "I", true)
  | _ => ("KnowHouse$ProofChecker$Plain", "name", "Ljava/lang/String;", true)
def tyX11 : Nat → FieldType := fun k => match k with
  | 0 => .int
  | _ => .object "java/lang/String"
abbrev wsX110 : List Cond := u_ws RX11 TX11 2
theorem nmX11 : ∀ a, a < 2 → ∀ b, b < 2 → a ≠ b → (TX11 a).2.1 ≠ (TX11 b).2.1 := by decide +kernel
theorem tyX11_ok : ∀ k, k < 2 → parseFieldDescriptor (TX11 k).2.2.1 = some (tyX11 k) := by decide +kernel
abbrev cX11_init : ByteArray := prog_27_method_1_code
def yX11_init : MethodName := ⟨RX11, "<init>", "()V"⟩
theorem dX11_init_0 : decode cX11_init 0 = .ok (.aload_n 0, 1) := by decide +kernel
theorem dX11_init_1 : decode cX11_init 1 = .ok (.iconst 0, 1) := by decide +kernel
theorem dX11_init_2 : decode cX11_init 2 = .ok (.ldc 1, 2) := by decide +kernel
theorem dX11_init_4 : decode cX11_init 4 = .ok (.invokespecial 3, 3) := by decide +kernel
theorem dX11_init_7 : decode cX11_init 7 = .ok (.return_, 1) := by decide +kernel
abbrev cX11_give : ByteArray := prog_27_method_2_code
def yX11_give : MethodName := ⟨RX11, "give", "(LKnowHouse$ProofChecker;I[LKnowHouse$ProofChecker$Statement;LKnowHouse$ProofChecker$Statement;)Z"⟩
theorem dX11_give_0 : decode cX11_give 0 = .ok (.aload 4, 2) := by decide +kernel
theorem dX11_give_2 : decode cX11_give 2 = .ok (.aload_n 1, 1) := by decide +kernel
theorem dX11_give_3 : decode cX11_give 3 = .ok (.getfield 9, 3) := by decide +kernel
theorem dX11_give_6 : decode cX11_give 6 = .ok (.iload_n 2, 1) := by decide +kernel
theorem dX11_give_7 : decode cX11_give 7 = .ok (.iconst 1, 1) := by decide +kernel
theorem dX11_give_8 : decode cX11_give 8 = .ok (.isub, 1) := by decide +kernel
theorem dX11_give_9 : decode cX11_give 9 = .ok (.aaload, 1) := by decide +kernel
theorem dX11_give_10 : decode cX11_give 10 = .ok (.invokevirtual 15, 3) := by decide +kernel
theorem dX11_give_13 : decode cX11_give 13 = .ok (.iconst 1, 1) := by decide +kernel
theorem dX11_give_14 : decode cX11_give 14 = .ok (.ireturn, 1) := by decide +kernel
theorem in_X11 : ∀ w ∈ wsX110, w ∈ lw_all := lw_in wsX110 [994, 996] (by decide +kernel) (by decide +kernel)
def RX12 : String := "KnowHouse$ProofChecker$Given"
def TX12 : u_T := fun k => match k with
  | 0 => ("KnowHouse$ProofChecker$Plain", "takes", "I", true)
  | 1 => ("KnowHouse$ProofChecker$Plain", "name", "Ljava/lang/String;", true)
  | _ => ("KnowHouse$ProofChecker$Given", "any", "Z", true)
def tyX12 : Nat → FieldType := fun k => match k with
  | 0 => .int
  | 1 => .object "java/lang/String"
  | _ => .boolean
abbrev wsX120 : List Cond := u_ws RX12 TX12 3
theorem nmX12 : ∀ a, a < 3 → ∀ b, b < 3 → a ≠ b → (TX12 a).2.1 ≠ (TX12 b).2.1 := by decide +kernel
theorem tyX12_ok : ∀ k, k < 3 → parseFieldDescriptor (TX12 k).2.2.1 = some (tyX12 k) := by decide +kernel
abbrev cX12_init : ByteArray := prog_32_method_1_code
def yX12_init : MethodName := ⟨RX12, "<init>", "(Z)V"⟩
theorem dX12_init_0 : decode cX12_init 0 = .ok (.aload_n 0, 1) := by decide +kernel
theorem dX12_init_1 : decode cX12_init 1 = .ok (.iload_n 1, 1) := by decide +kernel
theorem dX12_init_2 : decode cX12_init 2 = .ok (.ifCond .eq 7, 3) := by decide +kernel
theorem dX12_init_5 : decode cX12_init 5 = .ok (.iconst 1, 1) := by decide +kernel
theorem dX12_init_6 : decode cX12_init 6 = .ok (.goto 4, 3) := by decide +kernel
theorem dX12_init_9 : decode cX12_init 9 = .ok (.iconst 0, 1) := by decide +kernel
theorem dX12_init_10 : decode cX12_init 10 = .ok (.iload_n 1, 1) := by decide +kernel
theorem dX12_init_11 : decode cX12_init 11 = .ok (.ifCond .eq 8, 3) := by decide +kernel
theorem dX12_init_14 : decode cX12_init 14 = .ok (.ldc 3, 2) := by decide +kernel
theorem dX12_init_16 : decode cX12_init 16 = .ok (.goto 5, 3) := by decide +kernel
theorem dX12_init_19 : decode cX12_init 19 = .ok (.ldc 5, 2) := by decide +kernel
theorem dX12_init_21 : decode cX12_init 21 = .ok (.invokespecial 7, 3) := by decide +kernel
theorem dX12_init_24 : decode cX12_init 24 = .ok (.aload_n 0, 1) := by decide +kernel
theorem dX12_init_25 : decode cX12_init 25 = .ok (.iload_n 1, 1) := by decide +kernel
theorem dX12_init_26 : decode cX12_init 26 = .ok (.putfield 13, 3) := by decide +kernel
theorem dX12_init_29 : decode cX12_init 29 = .ok (.return_, 1) := by decide +kernel
abbrev cX12_give : ByteArray := prog_32_method_2_code
def yX12_give : MethodName := ⟨RX12, "give", "(LKnowHouse$ProofChecker;I[LKnowHouse$ProofChecker$Statement;LKnowHouse$ProofChecker$Statement;)Z"⟩
theorem dX12_give_0 : decode cX12_give 0 = .ok (.aload 4, 2) := by decide +kernel
theorem dX12_give_2 : decode cX12_give 2 = .ok (.aload_n 1, 1) := by decide +kernel
theorem dX12_give_3 : decode cX12_give 3 = .ok (.getfield 19, 3) := by decide +kernel
theorem dX12_give_6 : decode cX12_give 6 = .ok (.iload_n 2, 1) := by decide +kernel
theorem dX12_give_7 : decode cX12_give 7 = .ok (.iconst 1, 1) := by decide +kernel
theorem dX12_give_8 : decode cX12_give 8 = .ok (.isub, 1) := by decide +kernel
theorem dX12_give_9 : decode cX12_give 9 = .ok (.aaload, 1) := by decide +kernel
theorem dX12_give_10 : decode cX12_give 10 = .ok (.invokevirtual 23, 3) := by decide +kernel
theorem dX12_give_13 : decode cX12_give 13 = .ok (.aload_n 0, 1) := by decide +kernel
theorem dX12_give_14 : decode cX12_give 14 = .ok (.getfield 13, 3) := by decide +kernel
theorem dX12_give_17 : decode cX12_give 17 = .ok (.ifCond .eq 14, 3) := by decide +kernel
theorem dX12_give_20 : decode cX12_give 20 = .ok (.aload_n 3, 1) := by decide +kernel
theorem dX12_give_21 : decode cX12_give 21 = .ok (.iconst 0, 1) := by decide +kernel
theorem dX12_give_22 : decode cX12_give 22 = .ok (.aaload, 1) := by decide +kernel
theorem dX12_give_23 : decode cX12_give 23 = .ok (.getfield 29, 3) := by decide +kernel
theorem dX12_give_26 : decode cX12_give 26 = .ok (.bipush 12, 2) := by decide +kernel
theorem dX12_give_28 : decode cX12_give 28 = .ok (.if_icmp .ne 7, 3) := by decide +kernel
theorem dX12_give_31 : decode cX12_give 31 = .ok (.iconst 1, 1) := by decide +kernel
theorem dX12_give_32 : decode cX12_give 32 = .ok (.goto 4, 3) := by decide +kernel
theorem dX12_give_35 : decode cX12_give 35 = .ok (.iconst 0, 1) := by decide +kernel
theorem dX12_give_36 : decode cX12_give 36 = .ok (.ireturn, 1) := by decide +kernel
theorem in_X12 : ∀ w ∈ wsX120, w ∈ lw_all := lw_in wsX120 [1011, 1012, 1009] (by decide +kernel) (by decide +kernel)
def RX13 : String := "KnowHouse$ProofChecker$Itself"
def TX13 : u_T := fun k => match k with
  | 0 => ("KnowHouse$ProofChecker$Plain", "takes", "I", true)
  | _ => ("KnowHouse$ProofChecker$Plain", "name", "Ljava/lang/String;", true)
def tyX13 : Nat → FieldType := fun k => match k with
  | 0 => .int
  | _ => .object "java/lang/String"
abbrev wsX130 : List Cond := u_ws RX13 TX13 2
theorem nmX13 : ∀ a, a < 2 → ∀ b, b < 2 → a ≠ b → (TX13 a).2.1 ≠ (TX13 b).2.1 := by decide +kernel
theorem tyX13_ok : ∀ k, k < 2 → parseFieldDescriptor (TX13 k).2.2.1 = some (tyX13 k) := by decide +kernel
abbrev cX13_init : ByteArray := prog_33_method_1_code
def yX13_init : MethodName := ⟨RX13, "<init>", "()V"⟩
theorem dX13_init_0 : decode cX13_init 0 = .ok (.aload_n 0, 1) := by decide +kernel
theorem dX13_init_1 : decode cX13_init 1 = .ok (.iconst 0, 1) := by decide +kernel
theorem dX13_init_2 : decode cX13_init 2 = .ok (.ldc 3, 2) := by decide +kernel
theorem dX13_init_4 : decode cX13_init 4 = .ok (.invokespecial 5, 3) := by decide +kernel
theorem dX13_init_7 : decode cX13_init 7 = .ok (.return_, 1) := by decide +kernel
abbrev cX13_give : ByteArray := prog_33_method_2_code
def yX13_give : MethodName := ⟨RX13, "give", "(LKnowHouse$ProofChecker;I[LKnowHouse$ProofChecker$Statement;LKnowHouse$ProofChecker$Statement;)Z"⟩
theorem dX13_give_0 : decode cX13_give 0 = .ok (.aload 4, 2) := by decide +kernel
theorem dX13_give_2 : decode cX13_give 2 = .ok (.iconst 1, 1) := by decide +kernel
theorem dX13_give_3 : decode cX13_give 3 = .ok (.iload_n 2, 1) := by decide +kernel
theorem dX13_give_4 : decode cX13_give 4 = .ok (.iload_n 2, 1) := by decide +kernel
theorem dX13_give_5 : decode cX13_give 5 = .ok (.iconst 0, 1) := by decide +kernel
theorem dX13_give_6 : decode cX13_give 6 = .ok (.invokevirtual 11, 3) := by decide +kernel
theorem dX13_give_9 : decode cX13_give 9 = .ok (.iconst 1, 1) := by decide +kernel
theorem dX13_give_10 : decode cX13_give 10 = .ok (.ireturn, 1) := by decide +kernel
theorem in_X13 : ∀ w ∈ wsX130, w ∈ lw_all := lw_in wsX130 [1021, 1022] (by decide +kernel) (by decide +kernel)
def RX14 : String := "KnowHouse$ProofChecker$Chain"
def TX14 : u_T := fun k => match k with
  | 0 => ("KnowHouse$ProofChecker$Plain", "takes", "I", true)
  | 1 => ("KnowHouse$ProofChecker$Plain", "name", "Ljava/lang/String;", true)
  | _ => ("KnowHouse$ProofChecker$Chain", "kind", "I", true)
def tyX14 : Nat → FieldType := fun k => match k with
  | 0 => .int
  | 1 => .object "java/lang/String"
  | _ => .int
abbrev wsX140 : List Cond := u_ws RX14 TX14 3
theorem nmX14 : ∀ a, a < 3 → ∀ b, b < 3 → a ≠ b → (TX14 a).2.1 ≠ (TX14 b).2.1 := by decide +kernel
theorem tyX14_ok : ∀ k, k < 3 → parseFieldDescriptor (TX14 k).2.2.1 = some (tyX14 k) := by decide +kernel
abbrev cX14_init : ByteArray := prog_28_method_1_code
def yX14_init : MethodName := ⟨RX14, "<init>", "(ILjava/lang/String;)V"⟩
theorem dX14_init_0 : decode cX14_init 0 = .ok (.aload_n 0, 1) := by decide +kernel
theorem dX14_init_1 : decode cX14_init 1 = .ok (.iconst 2, 1) := by decide +kernel
theorem dX14_init_2 : decode cX14_init 2 = .ok (.aload_n 2, 1) := by decide +kernel
theorem dX14_init_3 : decode cX14_init 3 = .ok (.invokespecial 1, 3) := by decide +kernel
theorem dX14_init_6 : decode cX14_init 6 = .ok (.aload_n 0, 1) := by decide +kernel
theorem dX14_init_7 : decode cX14_init 7 = .ok (.iload_n 1, 1) := by decide +kernel
theorem dX14_init_8 : decode cX14_init 8 = .ok (.putfield 7, 3) := by decide +kernel
theorem dX14_init_11 : decode cX14_init 11 = .ok (.return_, 1) := by decide +kernel
abbrev cX14_give : ByteArray := prog_28_method_2_code
def yX14_give : MethodName := ⟨RX14, "give", "(LKnowHouse$ProofChecker;I[LKnowHouse$ProofChecker$Statement;LKnowHouse$ProofChecker$Statement;)Z"⟩
theorem dX14_give_0 : decode cX14_give 0 = .ok (.aload 4, 2) := by decide +kernel
theorem dX14_give_2 : decode cX14_give 2 = .ok (.aload_n 0, 1) := by decide +kernel
theorem dX14_give_3 : decode cX14_give 3 = .ok (.getfield 7, 3) := by decide +kernel
theorem dX14_give_6 : decode cX14_give 6 = .ok (.aload_n 3, 1) := by decide +kernel
theorem dX14_give_7 : decode cX14_give 7 = .ok (.iconst 0, 1) := by decide +kernel
theorem dX14_give_8 : decode cX14_give 8 = .ok (.aaload, 1) := by decide +kernel
theorem dX14_give_9 : decode cX14_give 9 = .ok (.getfield 13, 3) := by decide +kernel
theorem dX14_give_12 : decode cX14_give 12 = .ok (.aload_n 3, 1) := by decide +kernel
theorem dX14_give_13 : decode cX14_give 13 = .ok (.iconst 1, 1) := by decide +kernel
theorem dX14_give_14 : decode cX14_give 14 = .ok (.aaload, 1) := by decide +kernel
theorem dX14_give_15 : decode cX14_give 15 = .ok (.getfield 18, 3) := by decide +kernel
theorem dX14_give_18 : decode cX14_give 18 = .ok (.iconst 0, 1) := by decide +kernel
theorem dX14_give_19 : decode cX14_give 19 = .ok (.invokevirtual 21, 3) := by decide +kernel
theorem dX14_give_22 : decode cX14_give 22 = .ok (.aload_n 3, 1) := by decide +kernel
theorem dX14_give_23 : decode cX14_give 23 = .ok (.iconst 0, 1) := by decide +kernel
theorem dX14_give_24 : decode cX14_give 24 = .ok (.aaload, 1) := by decide +kernel
theorem dX14_give_25 : decode cX14_give 25 = .ok (.getfield 25, 3) := by decide +kernel
theorem dX14_give_28 : decode cX14_give 28 = .ok (.aload_n 0, 1) := by decide +kernel
theorem dX14_give_29 : decode cX14_give 29 = .ok (.getfield 7, 3) := by decide +kernel
theorem dX14_give_32 : decode cX14_give 32 = .ok (.if_icmp .ne 35, 3) := by decide +kernel
theorem dX14_give_35 : decode cX14_give 35 = .ok (.aload_n 3, 1) := by decide +kernel
theorem dX14_give_36 : decode cX14_give 36 = .ok (.iconst 1, 1) := by decide +kernel
theorem dX14_give_37 : decode cX14_give 37 = .ok (.aaload, 1) := by decide +kernel
theorem dX14_give_38 : decode cX14_give 38 = .ok (.getfield 25, 3) := by decide +kernel
theorem dX14_give_41 : decode cX14_give 41 = .ok (.aload_n 0, 1) := by decide +kernel
theorem dX14_give_42 : decode cX14_give 42 = .ok (.getfield 7, 3) := by decide +kernel
theorem dX14_give_45 : decode cX14_give 45 = .ok (.if_icmp .ne 22, 3) := by decide +kernel
theorem dX14_give_48 : decode cX14_give 48 = .ok (.aload_n 3, 1) := by decide +kernel
theorem dX14_give_49 : decode cX14_give 49 = .ok (.iconst 0, 1) := by decide +kernel
theorem dX14_give_50 : decode cX14_give 50 = .ok (.aaload, 1) := by decide +kernel
theorem dX14_give_51 : decode cX14_give 51 = .ok (.getfield 18, 3) := by decide +kernel
theorem dX14_give_54 : decode cX14_give 54 = .ok (.aload_n 3, 1) := by decide +kernel
theorem dX14_give_55 : decode cX14_give 55 = .ok (.iconst 1, 1) := by decide +kernel
theorem dX14_give_56 : decode cX14_give 56 = .ok (.aaload, 1) := by decide +kernel
theorem dX14_give_57 : decode cX14_give 57 = .ok (.getfield 13, 3) := by decide +kernel
theorem dX14_give_60 : decode cX14_give 60 = .ok (.if_icmp .ne 7, 3) := by decide +kernel
theorem dX14_give_63 : decode cX14_give 63 = .ok (.iconst 1, 1) := by decide +kernel
theorem dX14_give_64 : decode cX14_give 64 = .ok (.goto 4, 3) := by decide +kernel
theorem dX14_give_67 : decode cX14_give 67 = .ok (.iconst 0, 1) := by decide +kernel
theorem dX14_give_68 : decode cX14_give 68 = .ok (.ireturn, 1) := by decide +kernel
theorem in_X14 : ∀ w ∈ wsX140, w ∈ lw_all := lw_in wsX140 [1034, 1035, 1032] (by decide +kernel) (by decide +kernel)
def RX15 : String := "KnowHouse$ProofChecker$ClassRule"
def TX15 : u_T := fun k => match k with
  | 0 => ("KnowHouse$ProofChecker$Plain", "takes", "I", true)
  | _ => ("KnowHouse$ProofChecker$Plain", "name", "Ljava/lang/String;", true)
def tyX15 : Nat → FieldType := fun k => match k with
  | 0 => .int
  | _ => .object "java/lang/String"
abbrev wsX150 : List Cond := u_ws RX15 TX15 2
theorem nmX15 : ∀ a, a < 2 → ∀ b, b < 2 → a ≠ b → (TX15 a).2.1 ≠ (TX15 b).2.1 := by decide +kernel
theorem tyX15_ok : ∀ k, k < 2 → parseFieldDescriptor (TX15 k).2.2.1 = some (tyX15 k) := by decide +kernel
abbrev cX15_init : ByteArray := prog_29_method_1_code
def yX15_init : MethodName := ⟨RX15, "<init>", "()V"⟩
theorem dX15_init_0 : decode cX15_init 0 = .ok (.aload_n 0, 1) := by decide +kernel
theorem dX15_init_1 : decode cX15_init 1 = .ok (.iconst 2, 1) := by decide +kernel
theorem dX15_init_2 : decode cX15_init 2 = .ok (.ldc 3, 2) := by decide +kernel
theorem dX15_init_4 : decode cX15_init 4 = .ok (.invokespecial 5, 3) := by decide +kernel
theorem dX15_init_7 : decode cX15_init 7 = .ok (.return_, 1) := by decide +kernel
abbrev cX15_give : ByteArray := prog_29_method_2_code
def yX15_give : MethodName := ⟨RX15, "give", "(LKnowHouse$ProofChecker;I[LKnowHouse$ProofChecker$Statement;LKnowHouse$ProofChecker$Statement;)Z"⟩
theorem dX15_give_0 : decode cX15_give 0 = .ok (.aload 4, 2) := by decide +kernel
theorem dX15_give_2 : decode cX15_give 2 = .ok (.bipush 11, 2) := by decide +kernel
theorem dX15_give_4 : decode cX15_give 4 = .ok (.aload_n 3, 1) := by decide +kernel
theorem dX15_give_5 : decode cX15_give 5 = .ok (.iconst 1, 1) := by decide +kernel
theorem dX15_give_6 : decode cX15_give 6 = .ok (.aaload, 1) := by decide +kernel
theorem dX15_give_7 : decode cX15_give 7 = .ok (.getfield 11, 3) := by decide +kernel
theorem dX15_give_10 : decode cX15_give 10 = .ok (.iconst 0, 1) := by decide +kernel
theorem dX15_give_11 : decode cX15_give 11 = .ok (.aload_n 3, 1) := by decide +kernel
theorem dX15_give_12 : decode cX15_give 12 = .ok (.iconst 0, 1) := by decide +kernel
theorem dX15_give_13 : decode cX15_give 13 = .ok (.aaload, 1) := by decide +kernel
theorem dX15_give_14 : decode cX15_give 14 = .ok (.getfield 17, 3) := by decide +kernel
theorem dX15_give_17 : decode cX15_give 17 = .ok (.invokevirtual 20, 3) := by decide +kernel
theorem dX15_give_20 : decode cX15_give 20 = .ok (.aload_n 3, 1) := by decide +kernel
theorem dX15_give_21 : decode cX15_give 21 = .ok (.iconst 0, 1) := by decide +kernel
theorem dX15_give_22 : decode cX15_give 22 = .ok (.aaload, 1) := by decide +kernel
theorem dX15_give_23 : decode cX15_give 23 = .ok (.getfield 24, 3) := by decide +kernel
theorem dX15_give_26 : decode cX15_give 26 = .ok (.iconst 1, 1) := by decide +kernel
theorem dX15_give_27 : decode cX15_give 27 = .ok (.if_icmp .ne 32, 3) := by decide +kernel
theorem dX15_give_30 : decode cX15_give 30 = .ok (.aload_n 3, 1) := by decide +kernel
theorem dX15_give_31 : decode cX15_give 31 = .ok (.iconst 1, 1) := by decide +kernel
theorem dX15_give_32 : decode cX15_give 32 = .ok (.aaload, 1) := by decide +kernel
theorem dX15_give_33 : decode cX15_give 33 = .ok (.iconst 0, 1) := by decide +kernel
theorem dX15_give_34 : decode cX15_give 34 = .ok (.invokestatic 27, 3) := by decide +kernel
theorem dX15_give_37 : decode cX15_give 37 = .ok (.ifCond .eq 22, 3) := by decide +kernel
theorem dX15_give_40 : decode cX15_give 40 = .ok (.aload_n 3, 1) := by decide +kernel
theorem dX15_give_41 : decode cX15_give 41 = .ok (.iconst 1, 1) := by decide +kernel
theorem dX15_give_42 : decode cX15_give 42 = .ok (.aaload, 1) := by decide +kernel
theorem dX15_give_43 : decode cX15_give 43 = .ok (.getfield 31, 3) := by decide +kernel
theorem dX15_give_46 : decode cX15_give 46 = .ok (.aload_n 3, 1) := by decide +kernel
theorem dX15_give_47 : decode cX15_give 47 = .ok (.iconst 0, 1) := by decide +kernel
theorem dX15_give_48 : decode cX15_give 48 = .ok (.aaload, 1) := by decide +kernel
theorem dX15_give_49 : decode cX15_give 49 = .ok (.getfield 11, 3) := by decide +kernel
theorem dX15_give_52 : decode cX15_give 52 = .ok (.if_icmp .ne 7, 3) := by decide +kernel
theorem dX15_give_55 : decode cX15_give 55 = .ok (.iconst 1, 1) := by decide +kernel
theorem dX15_give_56 : decode cX15_give 56 = .ok (.goto 4, 3) := by decide +kernel
theorem dX15_give_59 : decode cX15_give 59 = .ok (.iconst 0, 1) := by decide +kernel
theorem dX15_give_60 : decode cX15_give 60 = .ok (.ireturn, 1) := by decide +kernel
theorem in_X15 : ∀ w ∈ wsX150, w ∈ lw_all := lw_in wsX150 [1045, 1046] (by decide +kernel) (by decide +kernel)
def RX17 : String := "KnowHouse$ProofChecker$Property"
def TX17 : u_T := fun k => match k with
  | 0 => ("KnowHouse$ProofChecker$OfProperty", "kind", "I", true)
  | 1 => ("KnowHouse$ProofChecker$Plain", "takes", "I", true)
  | _ => ("KnowHouse$ProofChecker$Plain", "name", "Ljava/lang/String;", true)
def tyX17 : Nat → FieldType := fun k => match k with
  | 0 => .int
  | 1 => .int
  | _ => .object "java/lang/String"
abbrev wsX170 : List Cond := u_ws RX17 TX17 3
theorem nmX17 : ∀ a, a < 3 → ∀ b, b < 3 → a ≠ b → (TX17 a).2.1 ≠ (TX17 b).2.1 := by decide +kernel
theorem tyX17_ok : ∀ k, k < 3 → parseFieldDescriptor (TX17 k).2.2.1 = some (tyX17 k) := by decide +kernel
abbrev cX17_init : ByteArray := prog_38_method_1_code
def yX17_init : MethodName := ⟨RX17, "<init>", "()V"⟩
theorem dX17_init_0 : decode cX17_init 0 = .ok (.aload_n 0, 1) := by decide +kernel
theorem dX17_init_1 : decode cX17_init 1 = .ok (.iconst 2, 1) := by decide +kernel
theorem dX17_init_2 : decode cX17_init 2 = .ok (.iconst 2, 1) := by decide +kernel
theorem dX17_init_3 : decode cX17_init 3 = .ok (.ldc 3, 2) := by decide +kernel
theorem dX17_init_5 : decode cX17_init 5 = .ok (.invokespecial 5, 3) := by decide +kernel
theorem dX17_init_8 : decode cX17_init 8 = .ok (.return_, 1) := by decide +kernel
abbrev cX17_more : ByteArray := prog_38_method_2_code
def yX17_more : MethodName := ⟨RX17, "more", "(LKnowHouse$ProofChecker$Statement;[LKnowHouse$ProofChecker$Statement;LKnowHouse$ProofChecker$Statement;)Z"⟩
theorem dX17_more_0 : decode cX17_more 0 = .ok (.aload_n 3, 1) := by decide +kernel
theorem dX17_more_1 : decode cX17_more 1 = .ok (.bipush 11, 2) := by decide +kernel
theorem dX17_more_3 : decode cX17_more 3 = .ok (.aload_n 2, 1) := by decide +kernel
theorem dX17_more_4 : decode cX17_more 4 = .ok (.iconst 1, 1) := by decide +kernel
theorem dX17_more_5 : decode cX17_more 5 = .ok (.aaload, 1) := by decide +kernel
theorem dX17_more_6 : decode cX17_more 6 = .ok (.getfield 11, 3) := by decide +kernel
theorem dX17_more_9 : decode cX17_more 9 = .ok (.aload_n 1, 1) := by decide +kernel
theorem dX17_more_10 : decode cX17_more 10 = .ok (.getfield 17, 3) := by decide +kernel
theorem dX17_more_13 : decode cX17_more 13 = .ok (.aload_n 2, 1) := by decide +kernel
theorem dX17_more_14 : decode cX17_more 14 = .ok (.iconst 1, 1) := by decide +kernel
theorem dX17_more_15 : decode cX17_more 15 = .ok (.aaload, 1) := by decide +kernel
theorem dX17_more_16 : decode cX17_more 16 = .ok (.getfield 20, 3) := by decide +kernel
theorem dX17_more_19 : decode cX17_more 19 = .ok (.invokevirtual 23, 3) := by decide +kernel
theorem dX17_more_22 : decode cX17_more 22 = .ok (.iconst 1, 1) := by decide +kernel
theorem dX17_more_23 : decode cX17_more 23 = .ok (.ireturn, 1) := by decide +kernel
theorem in_X17 : ∀ w ∈ wsX170, w ∈ lw_all := lw_in wsX170 [1059, 1061, 1062] (by decide +kernel) (by decide +kernel)
def RX18 : String := "KnowHouse$ProofChecker$End"
def TX18 : u_T := fun k => match k with
  | 0 => ("KnowHouse$ProofChecker$OfProperty", "kind", "I", true)
  | 1 => ("KnowHouse$ProofChecker$Plain", "takes", "I", true)
  | 2 => ("KnowHouse$ProofChecker$Plain", "name", "Ljava/lang/String;", true)
  | _ => ("KnowHouse$ProofChecker$End", "first", "Z", true)
def tyX18 : Nat → FieldType := fun k => match k with
  | 0 => .int
  | 1 => .int
  | 2 => .object "java/lang/String"
  | _ => .boolean
abbrev wsX180 : List Cond := u_ws RX18 TX18 4
theorem nmX18 : ∀ a, a < 4 → ∀ b, b < 4 → a ≠ b → (TX18 a).2.1 ≠ (TX18 b).2.1 := by decide +kernel
theorem tyX18_ok : ∀ k, k < 4 → parseFieldDescriptor (TX18 k).2.2.1 = some (tyX18 k) := by decide +kernel
abbrev cX18_init : ByteArray := prog_30_method_1_code
def yX18_init : MethodName := ⟨RX18, "<init>", "(Z)V"⟩
theorem dX18_init_0 : decode cX18_init 0 = .ok (.aload_n 0, 1) := by decide +kernel
theorem dX18_init_1 : decode cX18_init 1 = .ok (.iconst 2, 1) := by decide +kernel
theorem dX18_init_2 : decode cX18_init 2 = .ok (.iload_n 1, 1) := by decide +kernel
theorem dX18_init_3 : decode cX18_init 3 = .ok (.ifCond .eq 7, 3) := by decide +kernel
theorem dX18_init_6 : decode cX18_init 6 = .ok (.iconst 3, 1) := by decide +kernel
theorem dX18_init_7 : decode cX18_init 7 = .ok (.goto 4, 3) := by decide +kernel
theorem dX18_init_10 : decode cX18_init 10 = .ok (.iconst 4, 1) := by decide +kernel
theorem dX18_init_11 : decode cX18_init 11 = .ok (.iload_n 1, 1) := by decide +kernel
theorem dX18_init_12 : decode cX18_init 12 = .ok (.ifCond .eq 8, 3) := by decide +kernel
theorem dX18_init_15 : decode cX18_init 15 = .ok (.ldc 3, 2) := by decide +kernel
theorem dX18_init_17 : decode cX18_init 17 = .ok (.goto 5, 3) := by decide +kernel
theorem dX18_init_20 : decode cX18_init 20 = .ok (.ldc 5, 2) := by decide +kernel
theorem dX18_init_22 : decode cX18_init 22 = .ok (.invokespecial 7, 3) := by decide +kernel
theorem dX18_init_25 : decode cX18_init 25 = .ok (.aload_n 0, 1) := by decide +kernel
theorem dX18_init_26 : decode cX18_init 26 = .ok (.iload_n 1, 1) := by decide +kernel
theorem dX18_init_27 : decode cX18_init 27 = .ok (.putfield 13, 3) := by decide +kernel
theorem dX18_init_30 : decode cX18_init 30 = .ok (.return_, 1) := by decide +kernel
abbrev cX18_more : ByteArray := prog_30_method_2_code
def yX18_more : MethodName := ⟨RX18, "more", "(LKnowHouse$ProofChecker$Statement;[LKnowHouse$ProofChecker$Statement;LKnowHouse$ProofChecker$Statement;)Z"⟩
theorem dX18_more_0 : decode cX18_more 0 = .ok (.aload_n 3, 1) := by decide +kernel
theorem dX18_more_1 : decode cX18_more 1 = .ok (.bipush 11, 2) := by decide +kernel
theorem dX18_more_3 : decode cX18_more 3 = .ok (.aload_n 0, 1) := by decide +kernel
theorem dX18_more_4 : decode cX18_more 4 = .ok (.getfield 13, 3) := by decide +kernel
theorem dX18_more_7 : decode cX18_more 7 = .ok (.ifCond .eq 12, 3) := by decide +kernel
theorem dX18_more_10 : decode cX18_more 10 = .ok (.aload_n 2, 1) := by decide +kernel
theorem dX18_more_11 : decode cX18_more 11 = .ok (.iconst 1, 1) := by decide +kernel
theorem dX18_more_12 : decode cX18_more 12 = .ok (.aaload, 1) := by decide +kernel
theorem dX18_more_13 : decode cX18_more 13 = .ok (.getfield 19, 3) := by decide +kernel
theorem dX18_more_16 : decode cX18_more 16 = .ok (.goto 9, 3) := by decide +kernel
theorem dX18_more_19 : decode cX18_more 19 = .ok (.aload_n 2, 1) := by decide +kernel
theorem dX18_more_20 : decode cX18_more 20 = .ok (.iconst 1, 1) := by decide +kernel
theorem dX18_more_21 : decode cX18_more 21 = .ok (.aaload, 1) := by decide +kernel
theorem dX18_more_22 : decode cX18_more 22 = .ok (.getfield 25, 3) := by decide +kernel
theorem dX18_more_25 : decode cX18_more 25 = .ok (.iconst 0, 1) := by decide +kernel
theorem dX18_more_26 : decode cX18_more 26 = .ok (.aload_n 1, 1) := by decide +kernel
theorem dX18_more_27 : decode cX18_more 27 = .ok (.getfield 28, 3) := by decide +kernel
theorem dX18_more_30 : decode cX18_more 30 = .ok (.invokevirtual 31, 3) := by decide +kernel
theorem dX18_more_33 : decode cX18_more 33 = .ok (.iconst 1, 1) := by decide +kernel
theorem dX18_more_34 : decode cX18_more 34 = .ok (.ireturn, 1) := by decide +kernel
theorem in_X18 : ∀ w ∈ wsX180, w ∈ lw_all := lw_in wsX180 [1075, 1076, 1077, 1073] (by decide +kernel) (by decide +kernel)
def RX19 : String := "KnowHouse$ProofChecker$Turn"
def TX19 : u_T := fun k => match k with
  | 0 => ("KnowHouse$ProofChecker$OfProperty", "kind", "I", true)
  | 1 => ("KnowHouse$ProofChecker$Plain", "takes", "I", true)
  | 2 => ("KnowHouse$ProofChecker$Plain", "name", "Ljava/lang/String;", true)
  | _ => ("KnowHouse$ProofChecker$Turn", "either", "Z", true)
def tyX19 : Nat → FieldType := fun k => match k with
  | 0 => .int
  | 1 => .int
  | 2 => .object "java/lang/String"
  | _ => .boolean
abbrev wsX190 : List Cond := u_ws RX19 TX19 4
theorem nmX19 : ∀ a, a < 4 → ∀ b, b < 4 → a ≠ b → (TX19 a).2.1 ≠ (TX19 b).2.1 := by decide +kernel
theorem tyX19_ok : ∀ k, k < 4 → parseFieldDescriptor (TX19 k).2.2.1 = some (tyX19 k) := by decide +kernel
abbrev cX19_init : ByteArray := prog_44_method_1_code
def yX19_init : MethodName := ⟨RX19, "<init>", "(Z)V"⟩
theorem dX19_init_0 : decode cX19_init 0 = .ok (.aload_n 0, 1) := by decide +kernel
theorem dX19_init_1 : decode cX19_init 1 = .ok (.iconst 2, 1) := by decide +kernel
theorem dX19_init_2 : decode cX19_init 2 = .ok (.iload_n 1, 1) := by decide +kernel
theorem dX19_init_3 : decode cX19_init 3 = .ok (.ifCond .eq 8, 3) := by decide +kernel
theorem dX19_init_6 : decode cX19_init 6 = .ok (.bipush 7, 2) := by decide +kernel
theorem dX19_init_8 : decode cX19_init 8 = .ok (.goto 5, 3) := by decide +kernel
theorem dX19_init_11 : decode cX19_init 11 = .ok (.bipush 8, 2) := by decide +kernel
theorem dX19_init_13 : decode cX19_init 13 = .ok (.iload_n 1, 1) := by decide +kernel
theorem dX19_init_14 : decode cX19_init 14 = .ok (.ifCond .eq 8, 3) := by decide +kernel
theorem dX19_init_17 : decode cX19_init 17 = .ok (.ldc 3, 2) := by decide +kernel
theorem dX19_init_19 : decode cX19_init 19 = .ok (.goto 5, 3) := by decide +kernel
theorem dX19_init_22 : decode cX19_init 22 = .ok (.ldc 5, 2) := by decide +kernel
theorem dX19_init_24 : decode cX19_init 24 = .ok (.invokespecial 7, 3) := by decide +kernel
theorem dX19_init_27 : decode cX19_init 27 = .ok (.aload_n 0, 1) := by decide +kernel
theorem dX19_init_28 : decode cX19_init 28 = .ok (.iload_n 1, 1) := by decide +kernel
theorem dX19_init_29 : decode cX19_init 29 = .ok (.putfield 13, 3) := by decide +kernel
theorem dX19_init_32 : decode cX19_init 32 = .ok (.return_, 1) := by decide +kernel
abbrev cX19_more : ByteArray := prog_44_method_2_code
def yX19_more : MethodName := ⟨RX19, "more", "(LKnowHouse$ProofChecker$Statement;[LKnowHouse$ProofChecker$Statement;LKnowHouse$ProofChecker$Statement;)Z"⟩
theorem dX19_more_0 : decode cX19_more 0 = .ok (.aload_n 3, 1) := by decide +kernel
theorem dX19_more_1 : decode cX19_more 1 = .ok (.bipush 11, 2) := by decide +kernel
theorem dX19_more_3 : decode cX19_more 3 = .ok (.aload_n 2, 1) := by decide +kernel
theorem dX19_more_4 : decode cX19_more 4 = .ok (.iconst 1, 1) := by decide +kernel
theorem dX19_more_5 : decode cX19_more 5 = .ok (.aaload, 1) := by decide +kernel
theorem dX19_more_6 : decode cX19_more 6 = .ok (.getfield 18, 3) := by decide +kernel
theorem dX19_more_9 : decode cX19_more 9 = .ok (.aload_n 0, 1) := by decide +kernel
theorem dX19_more_10 : decode cX19_more 10 = .ok (.getfield 13, 3) := by decide +kernel
theorem dX19_more_13 : decode cX19_more 13 = .ok (.ifCond .eq 10, 3) := by decide +kernel
theorem dX19_more_16 : decode cX19_more 16 = .ok (.aload_n 1, 1) := by decide +kernel
theorem dX19_more_17 : decode cX19_more 17 = .ok (.getfield 24, 3) := by decide +kernel
theorem dX19_more_20 : decode cX19_more 20 = .ok (.goto 7, 3) := by decide +kernel
theorem dX19_more_23 : decode cX19_more 23 = .ok (.aload_n 1, 1) := by decide +kernel
theorem dX19_more_24 : decode cX19_more 24 = .ok (.getfield 27, 3) := by decide +kernel
theorem dX19_more_27 : decode cX19_more 27 = .ok (.aload_n 2, 1) := by decide +kernel
theorem dX19_more_28 : decode cX19_more 28 = .ok (.iconst 1, 1) := by decide +kernel
theorem dX19_more_29 : decode cX19_more 29 = .ok (.aaload, 1) := by decide +kernel
theorem dX19_more_30 : decode cX19_more 30 = .ok (.getfield 24, 3) := by decide +kernel
theorem dX19_more_33 : decode cX19_more 33 = .ok (.invokevirtual 30, 3) := by decide +kernel
theorem dX19_more_36 : decode cX19_more 36 = .ok (.iconst 1, 1) := by decide +kernel
theorem dX19_more_37 : decode cX19_more 37 = .ok (.ireturn, 1) := by decide +kernel
theorem in_X19 : ∀ w ∈ wsX190, w ∈ lw_all := lw_in wsX190 [1090, 1091, 1092, 1088] (by decide +kernel) (by decide +kernel)
def RX20 : String := "KnowHouse$ProofChecker$Through"
def TX20 : u_T := fun k => match k with
  | 0 => ("KnowHouse$ProofChecker$OfProperty", "kind", "I", true)
  | 1 => ("KnowHouse$ProofChecker$Plain", "takes", "I", true)
  | _ => ("KnowHouse$ProofChecker$Plain", "name", "Ljava/lang/String;", true)
def tyX20 : Nat → FieldType := fun k => match k with
  | 0 => .int
  | 1 => .int
  | _ => .object "java/lang/String"
abbrev wsX200 : List Cond := u_ws RX20 TX20 3
theorem nmX20 : ∀ a, a < 3 → ∀ b, b < 3 → a ≠ b → (TX20 a).2.1 ≠ (TX20 b).2.1 := by decide +kernel
theorem tyX20_ok : ∀ k, k < 3 → parseFieldDescriptor (TX20 k).2.2.1 = some (tyX20 k) := by decide +kernel
abbrev cX20_init : ByteArray := prog_43_method_1_code
def yX20_init : MethodName := ⟨RX20, "<init>", "()V"⟩
theorem dX20_init_0 : decode cX20_init 0 = .ok (.aload_n 0, 1) := by decide +kernel
theorem dX20_init_1 : decode cX20_init 1 = .ok (.iconst 3, 1) := by decide +kernel
theorem dX20_init_2 : decode cX20_init 2 = .ok (.bipush 6, 2) := by decide +kernel
theorem dX20_init_4 : decode cX20_init 4 = .ok (.ldc 3, 2) := by decide +kernel
theorem dX20_init_6 : decode cX20_init 6 = .ok (.invokespecial 5, 3) := by decide +kernel
theorem dX20_init_9 : decode cX20_init 9 = .ok (.return_, 1) := by decide +kernel
abbrev cX20_more : ByteArray := prog_43_method_2_code
def yX20_more : MethodName := ⟨RX20, "more", "(LKnowHouse$ProofChecker$Statement;[LKnowHouse$ProofChecker$Statement;LKnowHouse$ProofChecker$Statement;)Z"⟩
theorem dX20_more_0 : decode cX20_more 0 = .ok (.aload_n 3, 1) := by decide +kernel
theorem dX20_more_1 : decode cX20_more 1 = .ok (.bipush 11, 2) := by decide +kernel
theorem dX20_more_3 : decode cX20_more 3 = .ok (.aload_n 2, 1) := by decide +kernel
theorem dX20_more_4 : decode cX20_more 4 = .ok (.iconst 1, 1) := by decide +kernel
theorem dX20_more_5 : decode cX20_more 5 = .ok (.aaload, 1) := by decide +kernel
theorem dX20_more_6 : decode cX20_more 6 = .ok (.getfield 11, 3) := by decide +kernel
theorem dX20_more_9 : decode cX20_more 9 = .ok (.aload_n 1, 1) := by decide +kernel
theorem dX20_more_10 : decode cX20_more 10 = .ok (.getfield 11, 3) := by decide +kernel
theorem dX20_more_13 : decode cX20_more 13 = .ok (.aload_n 2, 1) := by decide +kernel
theorem dX20_more_14 : decode cX20_more 14 = .ok (.iconst 2, 1) := by decide +kernel
theorem dX20_more_15 : decode cX20_more 15 = .ok (.aaload, 1) := by decide +kernel
theorem dX20_more_16 : decode cX20_more 16 = .ok (.getfield 17, 3) := by decide +kernel
theorem dX20_more_19 : decode cX20_more 19 = .ok (.invokevirtual 20, 3) := by decide +kernel
theorem dX20_more_22 : decode cX20_more 22 = .ok (.aload_n 2, 1) := by decide +kernel
theorem dX20_more_23 : decode cX20_more 23 = .ok (.iconst 2, 1) := by decide +kernel
theorem dX20_more_24 : decode cX20_more 24 = .ok (.aaload, 1) := by decide +kernel
theorem dX20_more_25 : decode cX20_more 25 = .ok (.aload_n 1, 1) := by decide +kernel
theorem dX20_more_26 : decode cX20_more 26 = .ok (.getfield 11, 3) := by decide +kernel
theorem dX20_more_29 : decode cX20_more 29 = .ok (.invokestatic 24, 3) := by decide +kernel
theorem dX20_more_32 : decode cX20_more 32 = .ok (.ifCond .eq 22, 3) := by decide +kernel
theorem dX20_more_35 : decode cX20_more 35 = .ok (.aload_n 2, 1) := by decide +kernel
theorem dX20_more_36 : decode cX20_more 36 = .ok (.iconst 1, 1) := by decide +kernel
theorem dX20_more_37 : decode cX20_more 37 = .ok (.aaload, 1) := by decide +kernel
theorem dX20_more_38 : decode cX20_more 38 = .ok (.getfield 17, 3) := by decide +kernel
theorem dX20_more_41 : decode cX20_more 41 = .ok (.aload_n 2, 1) := by decide +kernel
theorem dX20_more_42 : decode cX20_more 42 = .ok (.iconst 2, 1) := by decide +kernel
theorem dX20_more_43 : decode cX20_more 43 = .ok (.aaload, 1) := by decide +kernel
theorem dX20_more_44 : decode cX20_more 44 = .ok (.getfield 11, 3) := by decide +kernel
theorem dX20_more_47 : decode cX20_more 47 = .ok (.if_icmp .ne 7, 3) := by decide +kernel
theorem dX20_more_50 : decode cX20_more 50 = .ok (.iconst 1, 1) := by decide +kernel
theorem dX20_more_51 : decode cX20_more 51 = .ok (.goto 4, 3) := by decide +kernel
theorem dX20_more_54 : decode cX20_more 54 = .ok (.iconst 0, 1) := by decide +kernel
theorem dX20_more_55 : decode cX20_more 55 = .ok (.ireturn, 1) := by decide +kernel
theorem in_X20 : ∀ w ∈ wsX200, w ∈ lw_all := lw_in wsX200 [1101, 1102, 1103] (by decide +kernel) (by decide +kernel)
def RX21 : String := "KnowHouse$ProofChecker$Swap"
def TX21 : u_T := fun k => match k with
  | 0 => ("KnowHouse$ProofChecker$Plain", "takes", "I", true)
  | _ => ("KnowHouse$ProofChecker$Plain", "name", "Ljava/lang/String;", true)
def tyX21 : Nat → FieldType := fun k => match k with
  | 0 => .int
  | _ => .object "java/lang/String"
abbrev wsX210 : List Cond := u_ws RX21 TX21 2
theorem nmX21 : ∀ a, a < 2 → ∀ b, b < 2 → a ≠ b → (TX21 a).2.1 ≠ (TX21 b).2.1 := by decide +kernel
theorem tyX21_ok : ∀ k, k < 2 → parseFieldDescriptor (TX21 k).2.2.1 = some (tyX21 k) := by decide +kernel
abbrev cX21_init : ByteArray := prog_42_method_1_code
def yX21_init : MethodName := ⟨RX21, "<init>", "()V"⟩
theorem dX21_init_0 : decode cX21_init 0 = .ok (.aload_n 0, 1) := by decide +kernel
theorem dX21_init_1 : decode cX21_init 1 = .ok (.iconst 1, 1) := by decide +kernel
theorem dX21_init_2 : decode cX21_init 2 = .ok (.ldc 3, 2) := by decide +kernel
theorem dX21_init_4 : decode cX21_init 4 = .ok (.invokespecial 5, 3) := by decide +kernel
theorem dX21_init_7 : decode cX21_init 7 = .ok (.return_, 1) := by decide +kernel
abbrev cX21_give : ByteArray := prog_42_method_2_code
def yX21_give : MethodName := ⟨RX21, "give", "(LKnowHouse$ProofChecker;I[LKnowHouse$ProofChecker$Statement;LKnowHouse$ProofChecker$Statement;)Z"⟩
theorem dX21_give_0 : decode cX21_give 0 = .ok (.aload 4, 2) := by decide +kernel
theorem dX21_give_2 : decode cX21_give 2 = .ok (.bipush 11, 2) := by decide +kernel
theorem dX21_give_4 : decode cX21_give 4 = .ok (.aload_n 3, 1) := by decide +kernel
theorem dX21_give_5 : decode cX21_give 5 = .ok (.iconst 0, 1) := by decide +kernel
theorem dX21_give_6 : decode cX21_give 6 = .ok (.aaload, 1) := by decide +kernel
theorem dX21_give_7 : decode cX21_give 7 = .ok (.getfield 11, 3) := by decide +kernel
theorem dX21_give_10 : decode cX21_give 10 = .ok (.iconst 1, 1) := by decide +kernel
theorem dX21_give_11 : decode cX21_give 11 = .ok (.aload_n 3, 1) := by decide +kernel
theorem dX21_give_12 : decode cX21_give 12 = .ok (.iconst 0, 1) := by decide +kernel
theorem dX21_give_13 : decode cX21_give 13 = .ok (.aaload, 1) := by decide +kernel
theorem dX21_give_14 : decode cX21_give 14 = .ok (.getfield 17, 3) := by decide +kernel
theorem dX21_give_17 : decode cX21_give 17 = .ok (.invokevirtual 20, 3) := by decide +kernel
theorem dX21_give_20 : decode cX21_give 20 = .ok (.aload_n 3, 1) := by decide +kernel
theorem dX21_give_21 : decode cX21_give 21 = .ok (.iconst 0, 1) := by decide +kernel
theorem dX21_give_22 : decode cX21_give 22 = .ok (.aaload, 1) := by decide +kernel
theorem dX21_give_23 : decode cX21_give 23 = .ok (.iconst 1, 1) := by decide +kernel
theorem dX21_give_24 : decode cX21_give 24 = .ok (.invokestatic 24, 3) := by decide +kernel
theorem dX21_give_27 : decode cX21_give 27 = .ok (.ireturn, 1) := by decide +kernel
theorem in_X21 : ∀ w ∈ wsX210, w ∈ lw_all := lw_in wsX210 [1112, 1113] (by decide +kernel) (by decide +kernel)
def RX22 : String := "KnowHouse$ProofChecker$Equal"
def TX22 : u_T := fun k => match k with
  | 0 => ("KnowHouse$ProofChecker$Plain", "takes", "I", true)
  | _ => ("KnowHouse$ProofChecker$Plain", "name", "Ljava/lang/String;", true)
def tyX22 : Nat → FieldType := fun k => match k with
  | 0 => .int
  | _ => .object "java/lang/String"
abbrev wsX220 : List Cond := u_ws RX22 TX22 2
theorem nmX22 : ∀ a, a < 2 → ∀ b, b < 2 → a ≠ b → (TX22 a).2.1 ≠ (TX22 b).2.1 := by decide +kernel
theorem tyX22_ok : ∀ k, k < 2 → parseFieldDescriptor (TX22 k).2.2.1 = some (tyX22 k) := by decide +kernel
abbrev cX22_init : ByteArray := prog_31_method_1_code
def yX22_init : MethodName := ⟨RX22, "<init>", "()V"⟩
theorem dX22_init_0 : decode cX22_init 0 = .ok (.aload_n 0, 1) := by decide +kernel
theorem dX22_init_1 : decode cX22_init 1 = .ok (.iconst 2, 1) := by decide +kernel
theorem dX22_init_2 : decode cX22_init 2 = .ok (.ldc 3, 2) := by decide +kernel
theorem dX22_init_4 : decode cX22_init 4 = .ok (.invokespecial 5, 3) := by decide +kernel
theorem dX22_init_7 : decode cX22_init 7 = .ok (.return_, 1) := by decide +kernel
abbrev cX22_give : ByteArray := prog_31_method_2_code
def yX22_give : MethodName := ⟨RX22, "give", "(LKnowHouse$ProofChecker;I[LKnowHouse$ProofChecker$Statement;LKnowHouse$ProofChecker$Statement;)Z"⟩
theorem dX22_give_0 : decode cX22_give 0 = .ok (.aload 4, 2) := by decide +kernel
theorem dX22_give_2 : decode cX22_give 2 = .ok (.bipush 11, 2) := by decide +kernel
theorem dX22_give_4 : decode cX22_give 4 = .ok (.aload_n 3, 1) := by decide +kernel
theorem dX22_give_5 : decode cX22_give 5 = .ok (.iconst 0, 1) := by decide +kernel
theorem dX22_give_6 : decode cX22_give 6 = .ok (.aaload, 1) := by decide +kernel
theorem dX22_give_7 : decode cX22_give 7 = .ok (.getfield 11, 3) := by decide +kernel
theorem dX22_give_10 : decode cX22_give 10 = .ok (.aload_n 3, 1) := by decide +kernel
theorem dX22_give_11 : decode cX22_give 11 = .ok (.iconst 1, 1) := by decide +kernel
theorem dX22_give_12 : decode cX22_give 12 = .ok (.aaload, 1) := by decide +kernel
theorem dX22_give_13 : decode cX22_give 13 = .ok (.getfield 17, 3) := by decide +kernel
theorem dX22_give_16 : decode cX22_give 16 = .ok (.aload_n 3, 1) := by decide +kernel
theorem dX22_give_17 : decode cX22_give 17 = .ok (.iconst 1, 1) := by decide +kernel
theorem dX22_give_18 : decode cX22_give 18 = .ok (.aaload, 1) := by decide +kernel
theorem dX22_give_19 : decode cX22_give 19 = .ok (.getfield 11, 3) := by decide +kernel
theorem dX22_give_22 : decode cX22_give 22 = .ok (.invokevirtual 20, 3) := by decide +kernel
theorem dX22_give_25 : decode cX22_give 25 = .ok (.aload_n 3, 1) := by decide +kernel
theorem dX22_give_26 : decode cX22_give 26 = .ok (.iconst 0, 1) := by decide +kernel
theorem dX22_give_27 : decode cX22_give 27 = .ok (.aaload, 1) := by decide +kernel
theorem dX22_give_28 : decode cX22_give 28 = .ok (.iconst 1, 1) := by decide +kernel
theorem dX22_give_29 : decode cX22_give 29 = .ok (.invokestatic 24, 3) := by decide +kernel
theorem dX22_give_32 : decode cX22_give 32 = .ok (.ifCond .eq 33, 3) := by decide +kernel
theorem dX22_give_35 : decode cX22_give 35 = .ok (.aload_n 3, 1) := by decide +kernel
theorem dX22_give_36 : decode cX22_give 36 = .ok (.iconst 1, 1) := by decide +kernel
theorem dX22_give_37 : decode cX22_give 37 = .ok (.aaload, 1) := by decide +kernel
theorem dX22_give_38 : decode cX22_give 38 = .ok (.getfield 28, 3) := by decide +kernel
theorem dX22_give_41 : decode cX22_give 41 = .ok (.bipush 11, 2) := by decide +kernel
theorem dX22_give_43 : decode cX22_give 43 = .ok (.if_icmp .ne 22, 3) := by decide +kernel
theorem dX22_give_46 : decode cX22_give 46 = .ok (.aload_n 3, 1) := by decide +kernel
theorem dX22_give_47 : decode cX22_give 47 = .ok (.iconst 1, 1) := by decide +kernel
theorem dX22_give_48 : decode cX22_give 48 = .ok (.aaload, 1) := by decide +kernel
theorem dX22_give_49 : decode cX22_give 49 = .ok (.getfield 31, 3) := by decide +kernel
theorem dX22_give_52 : decode cX22_give 52 = .ok (.aload_n 3, 1) := by decide +kernel
theorem dX22_give_53 : decode cX22_give 53 = .ok (.iconst 0, 1) := by decide +kernel
theorem dX22_give_54 : decode cX22_give 54 = .ok (.aaload, 1) := by decide +kernel
theorem dX22_give_55 : decode cX22_give 55 = .ok (.getfield 31, 3) := by decide +kernel
theorem dX22_give_58 : decode cX22_give 58 = .ok (.if_icmp .ne 7, 3) := by decide +kernel
theorem dX22_give_61 : decode cX22_give 61 = .ok (.iconst 1, 1) := by decide +kernel
theorem dX22_give_62 : decode cX22_give 62 = .ok (.goto 4, 3) := by decide +kernel
theorem dX22_give_65 : decode cX22_give 65 = .ok (.iconst 0, 1) := by decide +kernel
theorem dX22_give_66 : decode cX22_give 66 = .ok (.ireturn, 1) := by decide +kernel
theorem in_X22 : ∀ w ∈ wsX220, w ∈ lw_all := lw_in wsX220 [1122, 1123] (by decide +kernel) (by decide +kernel)
def RX23 : String := "KnowHouse$ProofChecker$One"
def TX23 : u_T := fun k => match k with
  | 0 => ("KnowHouse$ProofChecker$OfProperty", "kind", "I", true)
  | 1 => ("KnowHouse$ProofChecker$Plain", "takes", "I", true)
  | _ => ("KnowHouse$ProofChecker$Plain", "name", "Ljava/lang/String;", true)
def tyX23 : Nat → FieldType := fun k => match k with
  | 0 => .int
  | 1 => .int
  | _ => .object "java/lang/String"
abbrev wsX230 : List Cond := u_ws RX23 TX23 3
theorem nmX23 : ∀ a, a < 3 → ∀ b, b < 3 → a ≠ b → (TX23 a).2.1 ≠ (TX23 b).2.1 := by decide +kernel
theorem tyX23_ok : ∀ k, k < 3 → parseFieldDescriptor (TX23 k).2.2.1 = some (tyX23 k) := by decide +kernel
abbrev cX23_init : ByteArray := prog_36_method_1_code
def yX23_init : MethodName := ⟨RX23, "<init>", "()V"⟩
theorem dX23_init_0 : decode cX23_init 0 = .ok (.aload_n 0, 1) := by decide +kernel
theorem dX23_init_1 : decode cX23_init 1 = .ok (.iconst 3, 1) := by decide +kernel
theorem dX23_init_2 : decode cX23_init 2 = .ok (.bipush 9, 2) := by decide +kernel
theorem dX23_init_4 : decode cX23_init 4 = .ok (.ldc 3, 2) := by decide +kernel
theorem dX23_init_6 : decode cX23_init 6 = .ok (.invokespecial 5, 3) := by decide +kernel
theorem dX23_init_9 : decode cX23_init 9 = .ok (.return_, 1) := by decide +kernel
abbrev cX23_more : ByteArray := prog_36_method_2_code
def yX23_more : MethodName := ⟨RX23, "more", "(LKnowHouse$ProofChecker$Statement;[LKnowHouse$ProofChecker$Statement;LKnowHouse$ProofChecker$Statement;)Z"⟩
theorem dX23_more_0 : decode cX23_more 0 = .ok (.aload_n 3, 1) := by decide +kernel
theorem dX23_more_1 : decode cX23_more 1 = .ok (.bipush 11, 2) := by decide +kernel
theorem dX23_more_3 : decode cX23_more 3 = .ok (.aload_n 2, 1) := by decide +kernel
theorem dX23_more_4 : decode cX23_more 4 = .ok (.iconst 1, 1) := by decide +kernel
theorem dX23_more_5 : decode cX23_more 5 = .ok (.aaload, 1) := by decide +kernel
theorem dX23_more_6 : decode cX23_more 6 = .ok (.getfield 11, 3) := by decide +kernel
theorem dX23_more_9 : decode cX23_more 9 = .ok (.iconst 1, 1) := by decide +kernel
theorem dX23_more_10 : decode cX23_more 10 = .ok (.aload_n 2, 1) := by decide +kernel
theorem dX23_more_11 : decode cX23_more 11 = .ok (.iconst 2, 1) := by decide +kernel
theorem dX23_more_12 : decode cX23_more 12 = .ok (.aaload, 1) := by decide +kernel
theorem dX23_more_13 : decode cX23_more 13 = .ok (.getfield 11, 3) := by decide +kernel
theorem dX23_more_16 : decode cX23_more 16 = .ok (.invokevirtual 17, 3) := by decide +kernel
theorem dX23_more_19 : decode cX23_more 19 = .ok (.aload_n 2, 1) := by decide +kernel
theorem dX23_more_20 : decode cX23_more 20 = .ok (.iconst 2, 1) := by decide +kernel
theorem dX23_more_21 : decode cX23_more 21 = .ok (.aaload, 1) := by decide +kernel
theorem dX23_more_22 : decode cX23_more 22 = .ok (.aload_n 1, 1) := by decide +kernel
theorem dX23_more_23 : decode cX23_more 23 = .ok (.getfield 21, 3) := by decide +kernel
theorem dX23_more_26 : decode cX23_more 26 = .ok (.invokestatic 24, 3) := by decide +kernel
theorem dX23_more_29 : decode cX23_more 29 = .ok (.ifCond .eq 22, 3) := by decide +kernel
theorem dX23_more_32 : decode cX23_more 32 = .ok (.aload_n 2, 1) := by decide +kernel
theorem dX23_more_33 : decode cX23_more 33 = .ok (.iconst 1, 1) := by decide +kernel
theorem dX23_more_34 : decode cX23_more 34 = .ok (.aaload, 1) := by decide +kernel
theorem dX23_more_35 : decode cX23_more 35 = .ok (.getfield 21, 3) := by decide +kernel
theorem dX23_more_38 : decode cX23_more 38 = .ok (.aload_n 2, 1) := by decide +kernel
theorem dX23_more_39 : decode cX23_more 39 = .ok (.iconst 2, 1) := by decide +kernel
theorem dX23_more_40 : decode cX23_more 40 = .ok (.aaload, 1) := by decide +kernel
theorem dX23_more_41 : decode cX23_more 41 = .ok (.getfield 21, 3) := by decide +kernel
theorem dX23_more_44 : decode cX23_more 44 = .ok (.if_icmp .ne 7, 3) := by decide +kernel
theorem dX23_more_47 : decode cX23_more 47 = .ok (.iconst 1, 1) := by decide +kernel
theorem dX23_more_48 : decode cX23_more 48 = .ok (.goto 4, 3) := by decide +kernel
theorem dX23_more_51 : decode cX23_more 51 = .ok (.iconst 0, 1) := by decide +kernel
theorem dX23_more_52 : decode cX23_more 52 = .ok (.ireturn, 1) := by decide +kernel
theorem in_X23 : ∀ w ∈ wsX230, w ∈ lw_all := lw_in wsX230 [1132, 1133, 1134] (by decide +kernel) (by decide +kernel)
def RX24 : String := "KnowHouse$ProofChecker$Apart"
def TX24 : u_T := fun k => match k with
  | 0 => ("KnowHouse$ProofChecker$Plain", "takes", "I", true)
  | _ => ("KnowHouse$ProofChecker$Plain", "name", "Ljava/lang/String;", true)
def tyX24 : Nat → FieldType := fun k => match k with
  | 0 => .int
  | _ => .object "java/lang/String"
abbrev wsX240 : List Cond := u_ws RX24 TX24 2
theorem nmX24 : ∀ a, a < 2 → ∀ b, b < 2 → a ≠ b → (TX24 a).2.1 ≠ (TX24 b).2.1 := by decide +kernel
theorem tyX24_ok : ∀ k, k < 2 → parseFieldDescriptor (TX24 k).2.2.1 = some (tyX24 k) := by decide +kernel
abbrev cX24_init : ByteArray := prog_26_method_1_code
def yX24_init : MethodName := ⟨RX24, "<init>", "()V"⟩
theorem dX24_init_0 : decode cX24_init 0 = .ok (.aload_n 0, 1) := by decide +kernel
theorem dX24_init_1 : decode cX24_init 1 = .ok (.iconst 3, 1) := by decide +kernel
theorem dX24_init_2 : decode cX24_init 2 = .ok (.ldc 3, 2) := by decide +kernel
theorem dX24_init_4 : decode cX24_init 4 = .ok (.invokespecial 5, 3) := by decide +kernel
theorem dX24_init_7 : decode cX24_init 7 = .ok (.return_, 1) := by decide +kernel
abbrev cX24_give : ByteArray := prog_26_method_2_code
def yX24_give : MethodName := ⟨RX24, "give", "(LKnowHouse$ProofChecker;I[LKnowHouse$ProofChecker$Statement;LKnowHouse$ProofChecker$Statement;)Z"⟩
theorem dX24_give_0 : decode cX24_give 0 = .ok (.aload 4, 2) := by decide +kernel
theorem dX24_give_2 : decode cX24_give 2 = .ok (.bipush 12, 2) := by decide +kernel
theorem dX24_give_4 : decode cX24_give 4 = .ok (.iconst 0, 1) := by decide +kernel
theorem dX24_give_5 : decode cX24_give 5 = .ok (.iconst 0, 1) := by decide +kernel
theorem dX24_give_6 : decode cX24_give 6 = .ok (.iconst 0, 1) := by decide +kernel
theorem dX24_give_7 : decode cX24_give 7 = .ok (.invokevirtual 11, 3) := by decide +kernel
theorem dX24_give_10 : decode cX24_give 10 = .ok (.aload_n 3, 1) := by decide +kernel
theorem dX24_give_11 : decode cX24_give 11 = .ok (.iconst 0, 1) := by decide +kernel
theorem dX24_give_12 : decode cX24_give 12 = .ok (.aaload, 1) := by decide +kernel
theorem dX24_give_13 : decode cX24_give 13 = .ok (.getfield 17, 3) := by decide +kernel
theorem dX24_give_16 : decode cX24_give 16 = .ok (.iconst 5, 1) := by decide +kernel
theorem dX24_give_17 : decode cX24_give 17 = .ok (.if_icmp .ne 72, 3) := by decide +kernel
theorem dX24_give_20 : decode cX24_give 20 = .ok (.aload_n 3, 1) := by decide +kernel
theorem dX24_give_21 : decode cX24_give 21 = .ok (.iconst 1, 1) := by decide +kernel
theorem dX24_give_22 : decode cX24_give 22 = .ok (.aaload, 1) := by decide +kernel
theorem dX24_give_23 : decode cX24_give 23 = .ok (.iconst 0, 1) := by decide +kernel
theorem dX24_give_24 : decode cX24_give 24 = .ok (.invokestatic 21, 3) := by decide +kernel
theorem dX24_give_27 : decode cX24_give 27 = .ok (.ifCond .eq 62, 3) := by decide +kernel
theorem dX24_give_30 : decode cX24_give 30 = .ok (.aload_n 3, 1) := by decide +kernel
theorem dX24_give_31 : decode cX24_give 31 = .ok (.iconst 2, 1) := by decide +kernel
theorem dX24_give_32 : decode cX24_give 32 = .ok (.aaload, 1) := by decide +kernel
theorem dX24_give_33 : decode cX24_give 33 = .ok (.iconst 0, 1) := by decide +kernel
theorem dX24_give_34 : decode cX24_give 34 = .ok (.invokestatic 21, 3) := by decide +kernel
theorem dX24_give_37 : decode cX24_give 37 = .ok (.ifCond .eq 52, 3) := by decide +kernel
theorem dX24_give_40 : decode cX24_give 40 = .ok (.aload_n 3, 1) := by decide +kernel
theorem dX24_give_41 : decode cX24_give 41 = .ok (.iconst 1, 1) := by decide +kernel
theorem dX24_give_42 : decode cX24_give 42 = .ok (.aaload, 1) := by decide +kernel
theorem dX24_give_43 : decode cX24_give 43 = .ok (.getfield 25, 3) := by decide +kernel
theorem dX24_give_46 : decode cX24_give 46 = .ok (.aload_n 3, 1) := by decide +kernel
theorem dX24_give_47 : decode cX24_give 47 = .ok (.iconst 2, 1) := by decide +kernel
theorem dX24_give_48 : decode cX24_give 48 = .ok (.aaload, 1) := by decide +kernel
theorem dX24_give_49 : decode cX24_give 49 = .ok (.getfield 25, 3) := by decide +kernel
theorem dX24_give_52 : decode cX24_give 52 = .ok (.if_icmp .ne 37, 3) := by decide +kernel
theorem dX24_give_55 : decode cX24_give 55 = .ok (.aload_n 3, 1) := by decide +kernel
theorem dX24_give_56 : decode cX24_give 56 = .ok (.iconst 1, 1) := by decide +kernel
theorem dX24_give_57 : decode cX24_give 57 = .ok (.aaload, 1) := by decide +kernel
theorem dX24_give_58 : decode cX24_give 58 = .ok (.getfield 28, 3) := by decide +kernel
theorem dX24_give_61 : decode cX24_give 61 = .ok (.aload_n 3, 1) := by decide +kernel
theorem dX24_give_62 : decode cX24_give 62 = .ok (.iconst 0, 1) := by decide +kernel
theorem dX24_give_63 : decode cX24_give 63 = .ok (.aaload, 1) := by decide +kernel
theorem dX24_give_64 : decode cX24_give 64 = .ok (.getfield 25, 3) := by decide +kernel
theorem dX24_give_67 : decode cX24_give 67 = .ok (.if_icmp .ne 22, 3) := by decide +kernel
theorem dX24_give_70 : decode cX24_give 70 = .ok (.aload_n 3, 1) := by decide +kernel
theorem dX24_give_71 : decode cX24_give 71 = .ok (.iconst 2, 1) := by decide +kernel
theorem dX24_give_72 : decode cX24_give 72 = .ok (.aaload, 1) := by decide +kernel
theorem dX24_give_73 : decode cX24_give 73 = .ok (.getfield 28, 3) := by decide +kernel
theorem dX24_give_76 : decode cX24_give 76 = .ok (.aload_n 3, 1) := by decide +kernel
theorem dX24_give_77 : decode cX24_give 77 = .ok (.iconst 0, 1) := by decide +kernel
theorem dX24_give_78 : decode cX24_give 78 = .ok (.aaload, 1) := by decide +kernel
theorem dX24_give_79 : decode cX24_give 79 = .ok (.getfield 31, 3) := by decide +kernel
theorem dX24_give_82 : decode cX24_give 82 = .ok (.if_icmp .ne 7, 3) := by decide +kernel
theorem dX24_give_85 : decode cX24_give 85 = .ok (.iconst 1, 1) := by decide +kernel
theorem dX24_give_86 : decode cX24_give 86 = .ok (.goto 4, 3) := by decide +kernel
theorem dX24_give_89 : decode cX24_give 89 = .ok (.iconst 0, 1) := by decide +kernel
theorem dX24_give_90 : decode cX24_give 90 = .ok (.ireturn, 1) := by decide +kernel
theorem in_X24 : ∀ w ∈ wsX240, w ∈ lw_all := lw_in wsX240 [1143, 1144] (by decide +kernel) (by decide +kernel)
def RX25 : String := "KnowHouse$ProofChecker$Not"
def TX25 : u_T := fun k => match k with
  | 0 => ("KnowHouse$ProofChecker$Plain", "takes", "I", true)
  | _ => ("KnowHouse$ProofChecker$Plain", "name", "Ljava/lang/String;", true)
def tyX25 : Nat → FieldType := fun k => match k with
  | 0 => .int
  | _ => .object "java/lang/String"
abbrev wsX250 : List Cond := u_ws RX25 TX25 2
theorem nmX25 : ∀ a, a < 2 → ∀ b, b < 2 → a ≠ b → (TX25 a).2.1 ≠ (TX25 b).2.1 := by decide +kernel
theorem tyX25_ok : ∀ k, k < 2 → parseFieldDescriptor (TX25 k).2.2.1 = some (tyX25 k) := by decide +kernel
abbrev cX25_init : ByteArray := prog_34_method_1_code
def yX25_init : MethodName := ⟨RX25, "<init>", "()V"⟩
theorem dX25_init_0 : decode cX25_init 0 = .ok (.aload_n 0, 1) := by decide +kernel
theorem dX25_init_1 : decode cX25_init 1 = .ok (.iconst 2, 1) := by decide +kernel
theorem dX25_init_2 : decode cX25_init 2 = .ok (.ldc 3, 2) := by decide +kernel
theorem dX25_init_4 : decode cX25_init 4 = .ok (.invokespecial 5, 3) := by decide +kernel
theorem dX25_init_7 : decode cX25_init 7 = .ok (.return_, 1) := by decide +kernel
abbrev cX25_give : ByteArray := prog_34_method_2_code
def yX25_give : MethodName := ⟨RX25, "give", "(LKnowHouse$ProofChecker;I[LKnowHouse$ProofChecker$Statement;LKnowHouse$ProofChecker$Statement;)Z"⟩
theorem dX25_give_0 : decode cX25_give 0 = .ok (.aload 4, 2) := by decide +kernel
theorem dX25_give_2 : decode cX25_give 2 = .ok (.bipush 12, 2) := by decide +kernel
theorem dX25_give_4 : decode cX25_give 4 = .ok (.iconst 0, 1) := by decide +kernel
theorem dX25_give_5 : decode cX25_give 5 = .ok (.iconst 0, 1) := by decide +kernel
theorem dX25_give_6 : decode cX25_give 6 = .ok (.iconst 0, 1) := by decide +kernel
theorem dX25_give_7 : decode cX25_give 7 = .ok (.invokevirtual 11, 3) := by decide +kernel
theorem dX25_give_10 : decode cX25_give 10 = .ok (.aload_n 3, 1) := by decide +kernel
theorem dX25_give_11 : decode cX25_give 11 = .ok (.iconst 0, 1) := by decide +kernel
theorem dX25_give_12 : decode cX25_give 12 = .ok (.aaload, 1) := by decide +kernel
theorem dX25_give_13 : decode cX25_give 13 = .ok (.getfield 17, 3) := by decide +kernel
theorem dX25_give_16 : decode cX25_give 16 = .ok (.bipush 10, 2) := by decide +kernel
theorem dX25_give_18 : decode cX25_give 18 = .ok (.if_icmp .ne 47, 3) := by decide +kernel
theorem dX25_give_21 : decode cX25_give 21 = .ok (.aload_n 3, 1) := by decide +kernel
theorem dX25_give_22 : decode cX25_give 22 = .ok (.iconst 1, 1) := by decide +kernel
theorem dX25_give_23 : decode cX25_give 23 = .ok (.aaload, 1) := by decide +kernel
theorem dX25_give_24 : decode cX25_give 24 = .ok (.iconst 1, 1) := by decide +kernel
theorem dX25_give_25 : decode cX25_give 25 = .ok (.invokestatic 21, 3) := by decide +kernel
theorem dX25_give_28 : decode cX25_give 28 = .ok (.ifCond .eq 37, 3) := by decide +kernel
theorem dX25_give_31 : decode cX25_give 31 = .ok (.aload_n 3, 1) := by decide +kernel
theorem dX25_give_32 : decode cX25_give 32 = .ok (.iconst 1, 1) := by decide +kernel
theorem dX25_give_33 : decode cX25_give 33 = .ok (.aaload, 1) := by decide +kernel
theorem dX25_give_34 : decode cX25_give 34 = .ok (.getfield 25, 3) := by decide +kernel
theorem dX25_give_37 : decode cX25_give 37 = .ok (.aload_n 3, 1) := by decide +kernel
theorem dX25_give_38 : decode cX25_give 38 = .ok (.iconst 0, 1) := by decide +kernel
theorem dX25_give_39 : decode cX25_give 39 = .ok (.aaload, 1) := by decide +kernel
theorem dX25_give_40 : decode cX25_give 40 = .ok (.getfield 25, 3) := by decide +kernel
theorem dX25_give_43 : decode cX25_give 43 = .ok (.if_icmp .ne 22, 3) := by decide +kernel
theorem dX25_give_46 : decode cX25_give 46 = .ok (.aload_n 3, 1) := by decide +kernel
theorem dX25_give_47 : decode cX25_give 47 = .ok (.iconst 1, 1) := by decide +kernel
theorem dX25_give_48 : decode cX25_give 48 = .ok (.aaload, 1) := by decide +kernel
theorem dX25_give_49 : decode cX25_give 49 = .ok (.getfield 28, 3) := by decide +kernel
theorem dX25_give_52 : decode cX25_give 52 = .ok (.aload_n 3, 1) := by decide +kernel
theorem dX25_give_53 : decode cX25_give 53 = .ok (.iconst 0, 1) := by decide +kernel
theorem dX25_give_54 : decode cX25_give 54 = .ok (.aaload, 1) := by decide +kernel
theorem dX25_give_55 : decode cX25_give 55 = .ok (.getfield 31, 3) := by decide +kernel
theorem dX25_give_58 : decode cX25_give 58 = .ok (.if_icmp .ne 7, 3) := by decide +kernel
theorem dX25_give_61 : decode cX25_give 61 = .ok (.iconst 1, 1) := by decide +kernel
theorem dX25_give_62 : decode cX25_give 62 = .ok (.goto 4, 3) := by decide +kernel
theorem dX25_give_65 : decode cX25_give 65 = .ok (.iconst 0, 1) := by decide +kernel
theorem dX25_give_66 : decode cX25_give 66 = .ok (.ireturn, 1) := by decide +kernel
theorem in_X25 : ∀ w ∈ wsX250, w ∈ lw_all := lw_in wsX250 [1153, 1154] (by decide +kernel) (by decide +kernel)
def RX10 : String := "KnowHouse$ProofChecker$Plain"
abbrev cX10_init : ByteArray := prog_37_method_1_code
def yX10_init : MethodName := ⟨RX10, "<init>", "(ILjava/lang/String;)V"⟩
theorem dX10_init_0 : decode cX10_init 0 = .ok (.aload_n 0, 1) := by decide +kernel
theorem dX10_init_1 : decode cX10_init 1 = .ok (.invokespecial 1, 3) := by decide +kernel
theorem dX10_init_4 : decode cX10_init 4 = .ok (.aload_n 0, 1) := by decide +kernel
theorem dX10_init_5 : decode cX10_init 5 = .ok (.iload_n 1, 1) := by decide +kernel
theorem dX10_init_6 : decode cX10_init 6 = .ok (.putfield 7, 3) := by decide +kernel
theorem dX10_init_9 : decode cX10_init 9 = .ok (.aload_n 0, 1) := by decide +kernel
theorem dX10_init_10 : decode cX10_init 10 = .ok (.aload_n 2, 1) := by decide +kernel
theorem dX10_init_11 : decode cX10_init 11 = .ok (.putfield 13, 3) := by decide +kernel
theorem dX10_init_14 : decode cX10_init 14 = .ok (.return_, 1) := by decide +kernel
abbrev cX10_premises : ByteArray := prog_37_method_2_code
def yX10_premises : MethodName := ⟨RX10, "premises", "()I"⟩
theorem dX10_premises_0 : decode cX10_premises 0 = .ok (.aload_n 0, 1) := by decide +kernel
theorem dX10_premises_1 : decode cX10_premises 1 = .ok (.getfield 7, 3) := by decide +kernel
theorem dX10_premises_4 : decode cX10_premises 4 = .ok (.ireturn, 1) := by decide +kernel
abbrev cX10_word : ByteArray := prog_37_method_3_code
def yX10_word : MethodName := ⟨RX10, "word", "()Ljava/lang/String;"⟩
theorem dX10_word_0 : decode cX10_word 0 = .ok (.aload_n 0, 1) := by decide +kernel
theorem dX10_word_1 : decode cX10_word 1 = .ok (.getfield 13, 3) := by decide +kernel
theorem dX10_word_4 : decode cX10_word 4 = .ok (.areturn, 1) := by decide +kernel
def RX16 : String := "KnowHouse$ProofChecker$OfProperty"
abbrev cX16_init : ByteArray := prog_35_method_1_code
def yX16_init : MethodName := ⟨RX16, "<init>", "(IILjava/lang/String;)V"⟩
theorem dX16_init_0 : decode cX16_init 0 = .ok (.aload_n 0, 1) := by decide +kernel
theorem dX16_init_1 : decode cX16_init 1 = .ok (.iload_n 1, 1) := by decide +kernel
theorem dX16_init_2 : decode cX16_init 2 = .ok (.aload_n 3, 1) := by decide +kernel
theorem dX16_init_3 : decode cX16_init 3 = .ok (.invokespecial 1, 3) := by decide +kernel
theorem dX16_init_6 : decode cX16_init 6 = .ok (.aload_n 0, 1) := by decide +kernel
theorem dX16_init_7 : decode cX16_init 7 = .ok (.iload_n 2, 1) := by decide +kernel
theorem dX16_init_8 : decode cX16_init 8 = .ok (.putfield 7, 3) := by decide +kernel
theorem dX16_init_11 : decode cX16_init 11 = .ok (.return_, 1) := by decide +kernel
abbrev cX16_give : ByteArray := prog_35_method_3_code
def yX16_give : MethodName := ⟨RX16, "give", "(LKnowHouse$ProofChecker;I[LKnowHouse$ProofChecker$Statement;LKnowHouse$ProofChecker$Statement;)Z"⟩
theorem dX16_give_0 : decode cX16_give 0 = .ok (.aload_n 3, 1) := by decide +kernel
theorem dX16_give_1 : decode cX16_give 1 = .ok (.iconst 0, 1) := by decide +kernel
theorem dX16_give_2 : decode cX16_give 2 = .ok (.aaload, 1) := by decide +kernel
theorem dX16_give_3 : decode cX16_give 3 = .ok (.getfield 13, 3) := by decide +kernel
theorem dX16_give_6 : decode cX16_give 6 = .ok (.aload_n 0, 1) := by decide +kernel
theorem dX16_give_7 : decode cX16_give 7 = .ok (.getfield 7, 3) := by decide +kernel
theorem dX16_give_10 : decode cX16_give 10 = .ok (.if_icmp .ne 35, 3) := by decide +kernel
theorem dX16_give_13 : decode cX16_give 13 = .ok (.aload_n 3, 1) := by decide +kernel
theorem dX16_give_14 : decode cX16_give 14 = .ok (.iconst 1, 1) := by decide +kernel
theorem dX16_give_15 : decode cX16_give 15 = .ok (.aaload, 1) := by decide +kernel
theorem dX16_give_16 : decode cX16_give 16 = .ok (.aload_n 3, 1) := by decide +kernel
theorem dX16_give_17 : decode cX16_give 17 = .ok (.iconst 0, 1) := by decide +kernel
theorem dX16_give_18 : decode cX16_give 18 = .ok (.aaload, 1) := by decide +kernel
theorem dX16_give_19 : decode cX16_give 19 = .ok (.getfield 16, 3) := by decide +kernel
theorem dX16_give_22 : decode cX16_give 22 = .ok (.invokestatic 19, 3) := by decide +kernel
theorem dX16_give_25 : decode cX16_give 25 = .ok (.ifCond .eq 20, 3) := by decide +kernel
theorem dX16_give_28 : decode cX16_give 28 = .ok (.aload_n 0, 1) := by decide +kernel
theorem dX16_give_29 : decode cX16_give 29 = .ok (.aload_n 3, 1) := by decide +kernel
theorem dX16_give_30 : decode cX16_give 30 = .ok (.iconst 0, 1) := by decide +kernel
theorem dX16_give_31 : decode cX16_give 31 = .ok (.aaload, 1) := by decide +kernel
theorem dX16_give_32 : decode cX16_give 32 = .ok (.aload_n 3, 1) := by decide +kernel
theorem dX16_give_33 : decode cX16_give 33 = .ok (.aload 4, 2) := by decide +kernel
theorem dX16_give_35 : decode cX16_give 35 = .ok (.invokevirtual 25, 3) := by decide +kernel
theorem dX16_give_38 : decode cX16_give 38 = .ok (.ifCond .eq 7, 3) := by decide +kernel
theorem dX16_give_41 : decode cX16_give 41 = .ok (.iconst 1, 1) := by decide +kernel
theorem dX16_give_42 : decode cX16_give 42 = .ok (.goto 4, 3) := by decide +kernel
theorem dX16_give_45 : decode cX16_give 45 = .ok (.iconst 0, 1) := by decide +kernel
theorem dX16_give_46 : decode cX16_give 46 = .ok (.ireturn, 1) := by decide +kernel
theorem q493 : (Jvm.Cond.initialized "KnowHouse$ProofChecker") ∈ lw_all := lw_g (lw_at lw_m1 15 rfl) rfl
theorem q494 : (Jvm.Cond.initialized "KnowHouse$ProofChecker$Statement") ∈ lw_all := lw_g (lw_at lw_m1 16 rfl) rfl
theorem q495 : (Jvm.Cond.initialized "KnowHouse$ProofChecker$Plain") ∈ lw_all := lw_g (lw_at lw_m1 17 rfl) rfl
theorem q496 : (Jvm.Cond.initialized "KnowHouse$ProofChecker$Axiom") ∈ lw_all := lw_g (lw_at lw_m1 18 rfl) rfl
theorem q497 : (Jvm.Cond.initialized "KnowHouse$ProofChecker$Given") ∈ lw_all := lw_g (lw_at lw_m1 19 rfl) rfl
theorem q498 : (Jvm.Cond.initialized "KnowHouse$ProofChecker$Itself") ∈ lw_all := lw_g (lw_at lw_m1 20 rfl) rfl
theorem q499 : (Jvm.Cond.initialized "KnowHouse$ProofChecker$Chain") ∈ lw_all := lw_g (lw_at lw_m1 21 rfl) rfl
theorem q500 : (Jvm.Cond.initialized "KnowHouse$ProofChecker$ClassRule") ∈ lw_all := lw_g (lw_at lw_m1 22 rfl) rfl
theorem q501 : (Jvm.Cond.initialized "KnowHouse$ProofChecker$OfProperty") ∈ lw_all := lw_g (lw_at lw_m1 23 rfl) rfl
theorem q502 : (Jvm.Cond.initialized "KnowHouse$ProofChecker$Property") ∈ lw_all := lw_g (lw_at lw_m1 24 rfl) rfl
theorem q503 : (Jvm.Cond.initialized "KnowHouse$ProofChecker$End") ∈ lw_all := lw_g (lw_at lw_m1 25 rfl) rfl
theorem q504 : (Jvm.Cond.initialized "KnowHouse$ProofChecker$Turn") ∈ lw_all := lw_g (lw_at lw_m1 26 rfl) rfl
theorem q505 : (Jvm.Cond.initialized "KnowHouse$ProofChecker$Through") ∈ lw_all := lw_g (lw_at lw_m1 27 rfl) rfl
theorem q506 : (Jvm.Cond.initialized "KnowHouse$ProofChecker$Swap") ∈ lw_all := lw_g (lw_at lw_m1 28 rfl) rfl
theorem q507 : (Jvm.Cond.initialized "KnowHouse$ProofChecker$Equal") ∈ lw_all := lw_g (lw_at lw_m1 29 rfl) rfl
theorem q508 : (Jvm.Cond.initialized "KnowHouse$ProofChecker$One") ∈ lw_all := lw_g (lw_at lw_m1 30 rfl) rfl
theorem q509 : (Jvm.Cond.initialized "KnowHouse$ProofChecker$Apart") ∈ lw_all := lw_g (lw_at lw_m1 31 rfl) rfl
theorem q510 : (Jvm.Cond.initialized "KnowHouse$ProofChecker$Not") ∈ lw_all := lw_g (lw_at lw_m1 32 rfl) rfl
theorem q511 : (Jvm.Cond.initialized "KnowHouse$ProofChecker$Row") ∈ lw_all := lw_g (lw_at lw_m1 33 rfl) rfl
theorem q916 : (Jvm.Cond.methodLink "KnowHouse$ProofChecker" (12 : Nat) ({ cls := "java/lang/Object", name := "<init>", desc := "()V" } : Jvm.MethodName)) ∈ lw_all := lw_g (lw_at lw_m2 198 rfl) rfl
theorem q917 : (Jvm.Cond.classLink "KnowHouse$ProofChecker" (18 : Nat) "KnowHouse$ProofChecker$Rule") ∈ lw_all := lw_g (lw_at lw_m2 199 rfl) rfl
theorem q918 : (Jvm.Cond.arrayOver (Jvm.ClassFile.FieldType.object "KnowHouse$ProofChecker$Rule")) ∈ lw_tbl := lw_at lw_m2 200 rfl
theorem q919 : (Jvm.Cond.classLink "KnowHouse$ProofChecker" (2 : Nat) "KnowHouse$ProofChecker$Statement") ∈ lw_all := lw_g (lw_at lw_m2 201 rfl) rfl
theorem q920 : (Jvm.Cond.arrayOver (Jvm.ClassFile.FieldType.object "KnowHouse$ProofChecker$Statement")) ∈ lw_tbl := lw_at lw_m2 202 rfl
theorem q921 : (Jvm.Cond.instantiable "KnowHouse$ProofChecker$Statement" (4 : Nat)) ∈ lw_all := lw_g (lw_at lw_m2 203 rfl) rfl
theorem q922 : (Jvm.Cond.methodLinkNest "KnowHouse$ProofChecker" (31 : Nat) ({ cls := "KnowHouse$ProofChecker$Statement", name := "<init>", desc := "()V" } : Jvm.MethodName) "KnowHouse") ∈ lw_tbl := lw_at lw_m2 204 rfl
theorem q923 : (Jvm.Cond.instanceMethod ({ cls := "KnowHouse$ProofChecker$Statement", name := "<init>", desc := "()V" } : Jvm.MethodName)) ∈ lw_all := lw_g (lw_at lw_m2 205 rfl) rfl
theorem q924 : (Jvm.Cond.code ({ cls := "KnowHouse$ProofChecker$Statement", name := "<init>", desc := "()V" } : Jvm.MethodName) prog_41_method_1_code (1 : Nat) (Option.none : Option Jvm.ClassFile.FieldType)) ∈ lw_all := lw_g (lw_at lw_m2 206 rfl) rfl
theorem q925 : (Jvm.Cond.methodLink "KnowHouse$ProofChecker$Statement" (1 : Nat) ({ cls := "java/lang/Object", name := "<init>", desc := "()V" } : Jvm.MethodName)) ∈ lw_all := lw_g (lw_at lw_m2 207 rfl) rfl
theorem q926 : (Jvm.Cond.fieldLinkNest "KnowHouse$ProofChecker" (1 : Nat) "KnowHouse$ProofChecker$Statement" "kind" "I" "KnowHouse") ∈ lw_tbl := lw_at lw_m2 208 rfl
theorem q927 : (Jvm.Cond.fieldLink "KnowHouse$ProofChecker$Statement" (7 : Nat) "KnowHouse$ProofChecker$Statement" "kind" "I") ∈ lw_all := lw_g (lw_at lw_m2 209 rfl) rfl
theorem q928 : (Jvm.Cond.fieldLinkNest "KnowHouse$ProofChecker$Apart" (17 : Nat) "KnowHouse$ProofChecker$Statement" "kind" "I" "KnowHouse") ∈ lw_tbl := lw_at lw_m2 210 rfl
theorem q929 : (Jvm.Cond.fieldLinkNest "KnowHouse$ProofChecker$Not" (17 : Nat) "KnowHouse$ProofChecker$Statement" "kind" "I" "KnowHouse") ∈ lw_tbl := lw_at lw_m2 211 rfl
theorem q930 : (Jvm.Cond.fieldLinkNest "KnowHouse$ProofChecker$ClassRule" (24 : Nat) "KnowHouse$ProofChecker$Statement" "kind" "I" "KnowHouse") ∈ lw_tbl := lw_at lw_m2 212 rfl
theorem q931 : (Jvm.Cond.fieldLinkNest "KnowHouse$ProofChecker$Given" (29 : Nat) "KnowHouse$ProofChecker$Statement" "kind" "I" "KnowHouse") ∈ lw_tbl := lw_at lw_m2 213 rfl
theorem q932 : (Jvm.Cond.fieldLinkNest "KnowHouse$ProofChecker$Chain" (25 : Nat) "KnowHouse$ProofChecker$Statement" "kind" "I" "KnowHouse") ∈ lw_tbl := lw_at lw_m2 214 rfl
theorem q933 : (Jvm.Cond.fieldLinkNest "KnowHouse$ProofChecker$Equal" (28 : Nat) "KnowHouse$ProofChecker$Statement" "kind" "I" "KnowHouse") ∈ lw_tbl := lw_at lw_m2 215 rfl
theorem q934 : (Jvm.Cond.fieldLinkNest "KnowHouse$ProofChecker$OfProperty" (13 : Nat) "KnowHouse$ProofChecker$Statement" "kind" "I" "KnowHouse") ∈ lw_tbl := lw_at lw_m2 216 rfl
theorem q935 : (Jvm.Cond.fieldLinkNest "KnowHouse$ProofChecker$Property" (11 : Nat) "KnowHouse$ProofChecker$Statement" "a" "I" "KnowHouse") ∈ lw_tbl := lw_at lw_m2 217 rfl
theorem q936 : (Jvm.Cond.fieldLinkNest "KnowHouse$ProofChecker$Through" (11 : Nat) "KnowHouse$ProofChecker$Statement" "a" "I" "KnowHouse") ∈ lw_tbl := lw_at lw_m2 218 rfl
theorem q937 : (Jvm.Cond.fieldLink "KnowHouse$ProofChecker$Statement" (13 : Nat) "KnowHouse$ProofChecker$Statement" "a" "I") ∈ lw_all := lw_g (lw_at lw_m2 219 rfl) rfl
theorem q938 : (Jvm.Cond.fieldLinkNest "KnowHouse$ProofChecker$ClassRule" (11 : Nat) "KnowHouse$ProofChecker$Statement" "a" "I" "KnowHouse") ∈ lw_tbl := lw_at lw_m2 220 rfl
theorem q939 : (Jvm.Cond.fieldLinkNest "KnowHouse$ProofChecker$Chain" (13 : Nat) "KnowHouse$ProofChecker$Statement" "a" "I" "KnowHouse") ∈ lw_tbl := lw_at lw_m2 221 rfl
theorem q940 : (Jvm.Cond.fieldLinkNest "KnowHouse$ProofChecker$End" (19 : Nat) "KnowHouse$ProofChecker$Statement" "a" "I" "KnowHouse") ∈ lw_tbl := lw_at lw_m2 222 rfl
theorem q941 : (Jvm.Cond.fieldLinkNest "KnowHouse$ProofChecker$Swap" (17 : Nat) "KnowHouse$ProofChecker$Statement" "a" "I" "KnowHouse") ∈ lw_tbl := lw_at lw_m2 223 rfl
theorem q942 : (Jvm.Cond.fieldLinkNest "KnowHouse$ProofChecker$Turn" (24 : Nat) "KnowHouse$ProofChecker$Statement" "a" "I" "KnowHouse") ∈ lw_tbl := lw_at lw_m2 224 rfl
theorem q943 : (Jvm.Cond.fieldLinkNest "KnowHouse$ProofChecker$One" (21 : Nat) "KnowHouse$ProofChecker$Statement" "a" "I" "KnowHouse") ∈ lw_tbl := lw_at lw_m2 225 rfl
theorem q944 : (Jvm.Cond.fieldLinkNest "KnowHouse$ProofChecker$Not" (25 : Nat) "KnowHouse$ProofChecker$Statement" "a" "I" "KnowHouse") ∈ lw_tbl := lw_at lw_m2 226 rfl
theorem q945 : (Jvm.Cond.fieldLinkNest "KnowHouse$ProofChecker$Apart" (25 : Nat) "KnowHouse$ProofChecker$Statement" "a" "I" "KnowHouse") ∈ lw_tbl := lw_at lw_m2 227 rfl
theorem q946 : (Jvm.Cond.fieldLinkNest "KnowHouse$ProofChecker$Equal" (31 : Nat) "KnowHouse$ProofChecker$Statement" "a" "I" "KnowHouse") ∈ lw_tbl := lw_at lw_m2 228 rfl
theorem q947 : (Jvm.Cond.fieldLinkNest "KnowHouse$ProofChecker$OfProperty" (16 : Nat) "KnowHouse$ProofChecker$Statement" "a" "I" "KnowHouse") ∈ lw_tbl := lw_at lw_m2 229 rfl
theorem q948 : (Jvm.Cond.fieldLinkNest "KnowHouse$ProofChecker" (208 : Nat) "KnowHouse$ProofChecker$Statement" "a" "I" "KnowHouse") ∈ lw_tbl := lw_at lw_m2 230 rfl
theorem q949 : (Jvm.Cond.fieldLinkNest "KnowHouse$ProofChecker" (9 : Nat) "KnowHouse$ProofChecker$Statement" "b" "I" "KnowHouse") ∈ lw_tbl := lw_at lw_m2 231 rfl
theorem q950 : (Jvm.Cond.fieldLinkNest "KnowHouse$ProofChecker$Property" (17 : Nat) "KnowHouse$ProofChecker$Statement" "b" "I" "KnowHouse") ∈ lw_tbl := lw_at lw_m2 232 rfl
theorem q951 : (Jvm.Cond.fieldLink "KnowHouse$ProofChecker$Statement" (16 : Nat) "KnowHouse$ProofChecker$Statement" "b" "I") ∈ lw_all := lw_g (lw_at lw_m2 233 rfl) rfl
theorem q952 : (Jvm.Cond.fieldLinkNest "KnowHouse$ProofChecker$Equal" (17 : Nat) "KnowHouse$ProofChecker$Statement" "b" "I" "KnowHouse") ∈ lw_tbl := lw_at lw_m2 234 rfl
theorem q953 : (Jvm.Cond.fieldLinkNest "KnowHouse$ProofChecker$ClassRule" (17 : Nat) "KnowHouse$ProofChecker$Statement" "b" "I" "KnowHouse") ∈ lw_tbl := lw_at lw_m2 235 rfl
theorem q954 : (Jvm.Cond.fieldLinkNest "KnowHouse$ProofChecker$Chain" (18 : Nat) "KnowHouse$ProofChecker$Statement" "b" "I" "KnowHouse") ∈ lw_tbl := lw_at lw_m2 236 rfl
theorem q955 : (Jvm.Cond.fieldLinkNest "KnowHouse$ProofChecker$Turn" (27 : Nat) "KnowHouse$ProofChecker$Statement" "b" "I" "KnowHouse") ∈ lw_tbl := lw_at lw_m2 237 rfl
theorem q956 : (Jvm.Cond.fieldLinkNest "KnowHouse$ProofChecker$End" (28 : Nat) "KnowHouse$ProofChecker$Statement" "b" "I" "KnowHouse") ∈ lw_tbl := lw_at lw_m2 238 rfl
theorem q957 : (Jvm.Cond.fieldLinkNest "KnowHouse$ProofChecker$Not" (31 : Nat) "KnowHouse$ProofChecker$Statement" "b" "I" "KnowHouse") ∈ lw_tbl := lw_at lw_m2 239 rfl
theorem q958 : (Jvm.Cond.fieldLinkNest "KnowHouse$ProofChecker$Apart" (31 : Nat) "KnowHouse$ProofChecker$Statement" "b" "I" "KnowHouse") ∈ lw_tbl := lw_at lw_m3 0 rfl
theorem q959 : (Jvm.Cond.fieldLinkNest "KnowHouse$ProofChecker$One" (11 : Nat) "KnowHouse$ProofChecker$Statement" "c" "I" "KnowHouse") ∈ lw_tbl := lw_at lw_m3 1 rfl
theorem q960 : (Jvm.Cond.fieldLinkNest "KnowHouse$ProofChecker$Turn" (18 : Nat) "KnowHouse$ProofChecker$Statement" "c" "I" "KnowHouse") ∈ lw_tbl := lw_at lw_m3 2 rfl
theorem q961 : (Jvm.Cond.fieldLinkNest "KnowHouse$ProofChecker$Equal" (11 : Nat) "KnowHouse$ProofChecker$Statement" "c" "I" "KnowHouse") ∈ lw_tbl := lw_at lw_m3 3 rfl
theorem q962 : (Jvm.Cond.fieldLinkNest "KnowHouse$ProofChecker$Swap" (11 : Nat) "KnowHouse$ProofChecker$Statement" "c" "I" "KnowHouse") ∈ lw_tbl := lw_at lw_m3 4 rfl
theorem q963 : (Jvm.Cond.fieldLinkNest "KnowHouse$ProofChecker$Property" (20 : Nat) "KnowHouse$ProofChecker$Statement" "c" "I" "KnowHouse") ∈ lw_tbl := lw_at lw_m3 5 rfl
theorem q964 : (Jvm.Cond.fieldLinkNest "KnowHouse$ProofChecker$Through" (17 : Nat) "KnowHouse$ProofChecker$Statement" "c" "I" "KnowHouse") ∈ lw_tbl := lw_at lw_m3 6 rfl
theorem q965 : (Jvm.Cond.fieldLink "KnowHouse$ProofChecker$Statement" (19 : Nat) "KnowHouse$ProofChecker$Statement" "c" "I") ∈ lw_all := lw_g (lw_at lw_m3 7 rfl) rfl
theorem q966 : (Jvm.Cond.fieldLinkNest "KnowHouse$ProofChecker$End" (25 : Nat) "KnowHouse$ProofChecker$Statement" "c" "I" "KnowHouse") ∈ lw_tbl := lw_at lw_m3 8 rfl
theorem q967 : (Jvm.Cond.fieldLinkNest "KnowHouse$ProofChecker$ClassRule" (31 : Nat) "KnowHouse$ProofChecker$Statement" "c" "I" "KnowHouse") ∈ lw_tbl := lw_at lw_m3 9 rfl
theorem q968 : (Jvm.Cond.fieldLinkNest "KnowHouse$ProofChecker$Not" (28 : Nat) "KnowHouse$ProofChecker$Statement" "c" "I" "KnowHouse") ∈ lw_tbl := lw_at lw_m3 10 rfl
theorem q969 : (Jvm.Cond.fieldLinkNest "KnowHouse$ProofChecker$Apart" (28 : Nat) "KnowHouse$ProofChecker$Statement" "c" "I" "KnowHouse") ∈ lw_tbl := lw_at lw_m3 11 rfl
theorem q970 : (Jvm.Cond.fieldLinkNest "KnowHouse$ProofChecker" (211 : Nat) "KnowHouse$ProofChecker$Statement" "c" "I" "KnowHouse") ∈ lw_tbl := lw_at lw_m3 12 rfl
theorem q980 : (Jvm.Cond.classLink "KnowHouse$ProofChecker" (36 : Nat) "KnowHouse$ProofChecker$Row") ∈ lw_all := lw_g (lw_at lw_m3 22 rfl) rfl
theorem q981 : (Jvm.Cond.arrayOver (Jvm.ClassFile.FieldType.object "KnowHouse$ProofChecker$Row")) ∈ lw_tbl := lw_at lw_m3 23 rfl
theorem q982 : (Jvm.Cond.classLink "KnowHouse$ProofChecker" (57 : Nat) "KnowHouse$ProofChecker$Axiom") ∈ lw_all := lw_g (lw_at lw_m3 24 rfl) rfl
theorem q983 : (Jvm.Cond.instantiable "KnowHouse$ProofChecker$Axiom" (2 : Nat)) ∈ lw_all := lw_g (lw_at lw_m3 25 rfl) rfl
theorem q984 : (Jvm.Cond.methodLink "KnowHouse$ProofChecker" (59 : Nat) ({ cls := "KnowHouse$ProofChecker$Axiom", name := "<init>", desc := "()V" } : Jvm.MethodName)) ∈ lw_all := lw_g (lw_at lw_m3 26 rfl) rfl
theorem q985 : (Jvm.Cond.instanceMethod ({ cls := "KnowHouse$ProofChecker$Axiom", name := "<init>", desc := "()V" } : Jvm.MethodName)) ∈ lw_all := lw_g (lw_at lw_m3 27 rfl) rfl
theorem q986 : (Jvm.Cond.code ({ cls := "KnowHouse$ProofChecker$Axiom", name := "<init>", desc := "()V" } : Jvm.MethodName) prog_27_method_1_code (1 : Nat) (Option.none : Option Jvm.ClassFile.FieldType)) ∈ lw_all := lw_g (lw_at lw_m3 28 rfl) rfl
theorem q988 : (Jvm.Cond.methodLink "KnowHouse$ProofChecker$Axiom" (3 : Nat) ({ cls := "KnowHouse$ProofChecker$Plain", name := "<init>", desc := "(ILjava/lang/String;)V" } : Jvm.MethodName)) ∈ lw_all := lw_g (lw_at lw_m3 30 rfl) rfl
theorem q989 : (Jvm.Cond.instanceMethod ({ cls := "KnowHouse$ProofChecker$Plain", name := "<init>", desc := "(ILjava/lang/String;)V" } : Jvm.MethodName)) ∈ lw_all := lw_g (lw_at lw_m3 31 rfl) rfl
theorem q990 : (Jvm.Cond.code ({ cls := "KnowHouse$ProofChecker$Plain", name := "<init>", desc := "(ILjava/lang/String;)V" } : Jvm.MethodName) prog_37_method_1_code (3 : Nat) (Option.none : Option Jvm.ClassFile.FieldType)) ∈ lw_all := lw_g (lw_at lw_m3 32 rfl) rfl
theorem q991 : (Jvm.Cond.methodLink "KnowHouse$ProofChecker$Plain" (1 : Nat) ({ cls := "java/lang/Object", name := "<init>", desc := "()V" } : Jvm.MethodName)) ∈ lw_all := lw_g (lw_at lw_m3 33 rfl) rfl
theorem q992 : (Jvm.Cond.fieldLink "KnowHouse$ProofChecker$Plain" (7 : Nat) "KnowHouse$ProofChecker$Plain" "takes" "I") ∈ lw_all := lw_g (lw_at lw_m3 34 rfl) rfl
theorem q993 : (Jvm.Cond.fieldLink "KnowHouse$ProofChecker$Plain" (13 : Nat) "KnowHouse$ProofChecker$Plain" "name" "Ljava/lang/String;") ∈ lw_all := lw_g (lw_at lw_m3 35 rfl) rfl
theorem q1000 : (Jvm.Cond.classLink "KnowHouse$ProofChecker" (60 : Nat) "KnowHouse$ProofChecker$Given") ∈ lw_all := lw_g (lw_at lw_m3 42 rfl) rfl
theorem q1001 : (Jvm.Cond.instantiable "KnowHouse$ProofChecker$Given" (3 : Nat)) ∈ lw_all := lw_g (lw_at lw_m3 43 rfl) rfl
theorem q1002 : (Jvm.Cond.methodLink "KnowHouse$ProofChecker" (62 : Nat) ({ cls := "KnowHouse$ProofChecker$Given", name := "<init>", desc := "(Z)V" } : Jvm.MethodName)) ∈ lw_all := lw_g (lw_at lw_m3 44 rfl) rfl
theorem q1003 : (Jvm.Cond.instanceMethod ({ cls := "KnowHouse$ProofChecker$Given", name := "<init>", desc := "(Z)V" } : Jvm.MethodName)) ∈ lw_all := lw_g (lw_at lw_m3 45 rfl) rfl
theorem q1004 : (Jvm.Cond.code ({ cls := "KnowHouse$ProofChecker$Given", name := "<init>", desc := "(Z)V" } : Jvm.MethodName) prog_32_method_1_code (2 : Nat) (Option.none : Option Jvm.ClassFile.FieldType)) ∈ lw_all := lw_g (lw_at lw_m3 46 rfl) rfl
theorem q1007 : (Jvm.Cond.methodLink "KnowHouse$ProofChecker$Given" (7 : Nat) ({ cls := "KnowHouse$ProofChecker$Plain", name := "<init>", desc := "(ILjava/lang/String;)V" } : Jvm.MethodName)) ∈ lw_all := lw_g (lw_at lw_m3 49 rfl) rfl
theorem q1008 : (Jvm.Cond.fieldLink "KnowHouse$ProofChecker$Given" (13 : Nat) "KnowHouse$ProofChecker$Given" "any" "Z") ∈ lw_all := lw_g (lw_at lw_m3 50 rfl) rfl
theorem q1014 : (Jvm.Cond.classLink "KnowHouse$ProofChecker" (65 : Nat) "KnowHouse$ProofChecker$Itself") ∈ lw_all := lw_g (lw_at lw_m3 56 rfl) rfl
theorem q1015 : (Jvm.Cond.instantiable "KnowHouse$ProofChecker$Itself" (2 : Nat)) ∈ lw_all := lw_g (lw_at lw_m3 57 rfl) rfl
theorem q1016 : (Jvm.Cond.methodLink "KnowHouse$ProofChecker" (67 : Nat) ({ cls := "KnowHouse$ProofChecker$Itself", name := "<init>", desc := "()V" } : Jvm.MethodName)) ∈ lw_all := lw_g (lw_at lw_m3 58 rfl) rfl
theorem q1017 : (Jvm.Cond.instanceMethod ({ cls := "KnowHouse$ProofChecker$Itself", name := "<init>", desc := "()V" } : Jvm.MethodName)) ∈ lw_all := lw_g (lw_at lw_m3 59 rfl) rfl
theorem q1018 : (Jvm.Cond.code ({ cls := "KnowHouse$ProofChecker$Itself", name := "<init>", desc := "()V" } : Jvm.MethodName) prog_33_method_1_code (1 : Nat) (Option.none : Option Jvm.ClassFile.FieldType)) ∈ lw_all := lw_g (lw_at lw_m3 60 rfl) rfl
theorem q1020 : (Jvm.Cond.methodLink "KnowHouse$ProofChecker$Itself" (5 : Nat) ({ cls := "KnowHouse$ProofChecker$Plain", name := "<init>", desc := "(ILjava/lang/String;)V" } : Jvm.MethodName)) ∈ lw_all := lw_g (lw_at lw_m3 62 rfl) rfl
theorem q1024 : (Jvm.Cond.classLink "KnowHouse$ProofChecker" (68 : Nat) "KnowHouse$ProofChecker$Chain") ∈ lw_all := lw_g (lw_at lw_m3 66 rfl) rfl
theorem q1025 : (Jvm.Cond.instantiable "KnowHouse$ProofChecker$Chain" (3 : Nat)) ∈ lw_all := lw_g (lw_at lw_m3 67 rfl) rfl
theorem q1027 : (Jvm.Cond.methodLink "KnowHouse$ProofChecker" (72 : Nat) ({ cls := "KnowHouse$ProofChecker$Chain", name := "<init>", desc := "(ILjava/lang/String;)V" } : Jvm.MethodName)) ∈ lw_all := lw_g (lw_at lw_m3 69 rfl) rfl
theorem q1028 : (Jvm.Cond.instanceMethod ({ cls := "KnowHouse$ProofChecker$Chain", name := "<init>", desc := "(ILjava/lang/String;)V" } : Jvm.MethodName)) ∈ lw_all := lw_g (lw_at lw_m3 70 rfl) rfl
theorem q1029 : (Jvm.Cond.code ({ cls := "KnowHouse$ProofChecker$Chain", name := "<init>", desc := "(ILjava/lang/String;)V" } : Jvm.MethodName) prog_28_method_1_code (3 : Nat) (Option.none : Option Jvm.ClassFile.FieldType)) ∈ lw_all := lw_g (lw_at lw_m3 71 rfl) rfl
theorem q1030 : (Jvm.Cond.methodLink "KnowHouse$ProofChecker$Chain" (1 : Nat) ({ cls := "KnowHouse$ProofChecker$Plain", name := "<init>", desc := "(ILjava/lang/String;)V" } : Jvm.MethodName)) ∈ lw_all := lw_g (lw_at lw_m3 72 rfl) rfl
theorem q1031 : (Jvm.Cond.fieldLink "KnowHouse$ProofChecker$Chain" (7 : Nat) "KnowHouse$ProofChecker$Chain" "kind" "I") ∈ lw_all := lw_g (lw_at lw_m3 73 rfl) rfl
theorem q1038 : (Jvm.Cond.classLink "KnowHouse$ProofChecker" (77 : Nat) "KnowHouse$ProofChecker$ClassRule") ∈ lw_all := lw_g (lw_at lw_m3 80 rfl) rfl
theorem q1039 : (Jvm.Cond.instantiable "KnowHouse$ProofChecker$ClassRule" (2 : Nat)) ∈ lw_all := lw_g (lw_at lw_m3 81 rfl) rfl
theorem q1040 : (Jvm.Cond.methodLink "KnowHouse$ProofChecker" (79 : Nat) ({ cls := "KnowHouse$ProofChecker$ClassRule", name := "<init>", desc := "()V" } : Jvm.MethodName)) ∈ lw_all := lw_g (lw_at lw_m3 82 rfl) rfl
theorem q1041 : (Jvm.Cond.instanceMethod ({ cls := "KnowHouse$ProofChecker$ClassRule", name := "<init>", desc := "()V" } : Jvm.MethodName)) ∈ lw_all := lw_g (lw_at lw_m3 83 rfl) rfl
theorem q1042 : (Jvm.Cond.code ({ cls := "KnowHouse$ProofChecker$ClassRule", name := "<init>", desc := "()V" } : Jvm.MethodName) prog_29_method_1_code (1 : Nat) (Option.none : Option Jvm.ClassFile.FieldType)) ∈ lw_all := lw_g (lw_at lw_m3 84 rfl) rfl
theorem q1044 : (Jvm.Cond.methodLink "KnowHouse$ProofChecker$ClassRule" (5 : Nat) ({ cls := "KnowHouse$ProofChecker$Plain", name := "<init>", desc := "(ILjava/lang/String;)V" } : Jvm.MethodName)) ∈ lw_all := lw_g (lw_at lw_m3 86 rfl) rfl
theorem q1048 : (Jvm.Cond.classLink "KnowHouse$ProofChecker" (80 : Nat) "KnowHouse$ProofChecker$Property") ∈ lw_all := lw_g (lw_at lw_m3 90 rfl) rfl
theorem q1049 : (Jvm.Cond.instantiable "KnowHouse$ProofChecker$Property" (3 : Nat)) ∈ lw_all := lw_g (lw_at lw_m3 91 rfl) rfl
theorem q1050 : (Jvm.Cond.methodLink "KnowHouse$ProofChecker" (82 : Nat) ({ cls := "KnowHouse$ProofChecker$Property", name := "<init>", desc := "()V" } : Jvm.MethodName)) ∈ lw_all := lw_g (lw_at lw_m3 92 rfl) rfl
theorem q1051 : (Jvm.Cond.instanceMethod ({ cls := "KnowHouse$ProofChecker$Property", name := "<init>", desc := "()V" } : Jvm.MethodName)) ∈ lw_all := lw_g (lw_at lw_m3 93 rfl) rfl
theorem q1052 : (Jvm.Cond.code ({ cls := "KnowHouse$ProofChecker$Property", name := "<init>", desc := "()V" } : Jvm.MethodName) prog_38_method_1_code (1 : Nat) (Option.none : Option Jvm.ClassFile.FieldType)) ∈ lw_all := lw_g (lw_at lw_m3 94 rfl) rfl
theorem q1054 : (Jvm.Cond.methodLink "KnowHouse$ProofChecker$Property" (5 : Nat) ({ cls := "KnowHouse$ProofChecker$OfProperty", name := "<init>", desc := "(IILjava/lang/String;)V" } : Jvm.MethodName)) ∈ lw_all := lw_g (lw_at lw_m3 96 rfl) rfl
theorem q1055 : (Jvm.Cond.instanceMethod ({ cls := "KnowHouse$ProofChecker$OfProperty", name := "<init>", desc := "(IILjava/lang/String;)V" } : Jvm.MethodName)) ∈ lw_all := lw_g (lw_at lw_m3 97 rfl) rfl
theorem q1056 : (Jvm.Cond.code ({ cls := "KnowHouse$ProofChecker$OfProperty", name := "<init>", desc := "(IILjava/lang/String;)V" } : Jvm.MethodName) prog_35_method_1_code (4 : Nat) (Option.none : Option Jvm.ClassFile.FieldType)) ∈ lw_all := lw_g (lw_at lw_m3 98 rfl) rfl
theorem q1057 : (Jvm.Cond.methodLink "KnowHouse$ProofChecker$OfProperty" (1 : Nat) ({ cls := "KnowHouse$ProofChecker$Plain", name := "<init>", desc := "(ILjava/lang/String;)V" } : Jvm.MethodName)) ∈ lw_all := lw_g (lw_at lw_m3 99 rfl) rfl
theorem q1058 : (Jvm.Cond.fieldLink "KnowHouse$ProofChecker$OfProperty" (7 : Nat) "KnowHouse$ProofChecker$OfProperty" "kind" "I") ∈ lw_all := lw_g (lw_at lw_m3 100 rfl) rfl
theorem q1064 : (Jvm.Cond.classLink "KnowHouse$ProofChecker" (83 : Nat) "KnowHouse$ProofChecker$End") ∈ lw_all := lw_g (lw_at lw_m3 106 rfl) rfl
theorem q1065 : (Jvm.Cond.instantiable "KnowHouse$ProofChecker$End" (4 : Nat)) ∈ lw_all := lw_g (lw_at lw_m3 107 rfl) rfl
theorem q1066 : (Jvm.Cond.methodLink "KnowHouse$ProofChecker" (85 : Nat) ({ cls := "KnowHouse$ProofChecker$End", name := "<init>", desc := "(Z)V" } : Jvm.MethodName)) ∈ lw_all := lw_g (lw_at lw_m3 108 rfl) rfl
theorem q1067 : (Jvm.Cond.instanceMethod ({ cls := "KnowHouse$ProofChecker$End", name := "<init>", desc := "(Z)V" } : Jvm.MethodName)) ∈ lw_all := lw_g (lw_at lw_m3 109 rfl) rfl
theorem q1068 : (Jvm.Cond.code ({ cls := "KnowHouse$ProofChecker$End", name := "<init>", desc := "(Z)V" } : Jvm.MethodName) prog_30_method_1_code (2 : Nat) (Option.none : Option Jvm.ClassFile.FieldType)) ∈ lw_all := lw_g (lw_at lw_m3 110 rfl) rfl
theorem q1071 : (Jvm.Cond.methodLink "KnowHouse$ProofChecker$End" (7 : Nat) ({ cls := "KnowHouse$ProofChecker$OfProperty", name := "<init>", desc := "(IILjava/lang/String;)V" } : Jvm.MethodName)) ∈ lw_all := lw_g (lw_at lw_m3 113 rfl) rfl
theorem q1072 : (Jvm.Cond.fieldLink "KnowHouse$ProofChecker$End" (13 : Nat) "KnowHouse$ProofChecker$End" "first" "Z") ∈ lw_all := lw_g (lw_at lw_m3 114 rfl) rfl
theorem q1079 : (Jvm.Cond.classLink "KnowHouse$ProofChecker" (86 : Nat) "KnowHouse$ProofChecker$Turn") ∈ lw_all := lw_g (lw_at lw_m3 121 rfl) rfl
theorem q1080 : (Jvm.Cond.instantiable "KnowHouse$ProofChecker$Turn" (4 : Nat)) ∈ lw_all := lw_g (lw_at lw_m3 122 rfl) rfl
theorem q1081 : (Jvm.Cond.methodLink "KnowHouse$ProofChecker" (88 : Nat) ({ cls := "KnowHouse$ProofChecker$Turn", name := "<init>", desc := "(Z)V" } : Jvm.MethodName)) ∈ lw_all := lw_g (lw_at lw_m3 123 rfl) rfl
theorem q1082 : (Jvm.Cond.instanceMethod ({ cls := "KnowHouse$ProofChecker$Turn", name := "<init>", desc := "(Z)V" } : Jvm.MethodName)) ∈ lw_all := lw_g (lw_at lw_m3 124 rfl) rfl
theorem q1083 : (Jvm.Cond.code ({ cls := "KnowHouse$ProofChecker$Turn", name := "<init>", desc := "(Z)V" } : Jvm.MethodName) prog_44_method_1_code (2 : Nat) (Option.none : Option Jvm.ClassFile.FieldType)) ∈ lw_all := lw_g (lw_at lw_m3 125 rfl) rfl
theorem q1086 : (Jvm.Cond.methodLink "KnowHouse$ProofChecker$Turn" (7 : Nat) ({ cls := "KnowHouse$ProofChecker$OfProperty", name := "<init>", desc := "(IILjava/lang/String;)V" } : Jvm.MethodName)) ∈ lw_all := lw_g (lw_at lw_m3 128 rfl) rfl
theorem q1087 : (Jvm.Cond.fieldLink "KnowHouse$ProofChecker$Turn" (13 : Nat) "KnowHouse$ProofChecker$Turn" "either" "Z") ∈ lw_all := lw_g (lw_at lw_m3 129 rfl) rfl
theorem q1094 : (Jvm.Cond.classLink "KnowHouse$ProofChecker" (89 : Nat) "KnowHouse$ProofChecker$Through") ∈ lw_all := lw_g (lw_at lw_m3 136 rfl) rfl
theorem q1095 : (Jvm.Cond.instantiable "KnowHouse$ProofChecker$Through" (3 : Nat)) ∈ lw_all := lw_g (lw_at lw_m3 137 rfl) rfl
theorem q1096 : (Jvm.Cond.methodLink "KnowHouse$ProofChecker" (91 : Nat) ({ cls := "KnowHouse$ProofChecker$Through", name := "<init>", desc := "()V" } : Jvm.MethodName)) ∈ lw_all := lw_g (lw_at lw_m3 138 rfl) rfl
theorem q1097 : (Jvm.Cond.instanceMethod ({ cls := "KnowHouse$ProofChecker$Through", name := "<init>", desc := "()V" } : Jvm.MethodName)) ∈ lw_all := lw_g (lw_at lw_m3 139 rfl) rfl
theorem q1098 : (Jvm.Cond.code ({ cls := "KnowHouse$ProofChecker$Through", name := "<init>", desc := "()V" } : Jvm.MethodName) prog_43_method_1_code (1 : Nat) (Option.none : Option Jvm.ClassFile.FieldType)) ∈ lw_all := lw_g (lw_at lw_m3 140 rfl) rfl
theorem q1100 : (Jvm.Cond.methodLink "KnowHouse$ProofChecker$Through" (5 : Nat) ({ cls := "KnowHouse$ProofChecker$OfProperty", name := "<init>", desc := "(IILjava/lang/String;)V" } : Jvm.MethodName)) ∈ lw_all := lw_g (lw_at lw_m3 142 rfl) rfl
theorem q1105 : (Jvm.Cond.classLink "KnowHouse$ProofChecker" (92 : Nat) "KnowHouse$ProofChecker$Swap") ∈ lw_all := lw_g (lw_at lw_m3 147 rfl) rfl
theorem q1106 : (Jvm.Cond.instantiable "KnowHouse$ProofChecker$Swap" (2 : Nat)) ∈ lw_all := lw_g (lw_at lw_m3 148 rfl) rfl
theorem q1107 : (Jvm.Cond.methodLink "KnowHouse$ProofChecker" (94 : Nat) ({ cls := "KnowHouse$ProofChecker$Swap", name := "<init>", desc := "()V" } : Jvm.MethodName)) ∈ lw_all := lw_g (lw_at lw_m3 149 rfl) rfl
theorem q1108 : (Jvm.Cond.instanceMethod ({ cls := "KnowHouse$ProofChecker$Swap", name := "<init>", desc := "()V" } : Jvm.MethodName)) ∈ lw_all := lw_g (lw_at lw_m3 150 rfl) rfl
theorem q1109 : (Jvm.Cond.code ({ cls := "KnowHouse$ProofChecker$Swap", name := "<init>", desc := "()V" } : Jvm.MethodName) prog_42_method_1_code (1 : Nat) (Option.none : Option Jvm.ClassFile.FieldType)) ∈ lw_all := lw_g (lw_at lw_m3 151 rfl) rfl
theorem q1111 : (Jvm.Cond.methodLink "KnowHouse$ProofChecker$Swap" (5 : Nat) ({ cls := "KnowHouse$ProofChecker$Plain", name := "<init>", desc := "(ILjava/lang/String;)V" } : Jvm.MethodName)) ∈ lw_all := lw_g (lw_at lw_m3 153 rfl) rfl
theorem q1115 : (Jvm.Cond.classLink "KnowHouse$ProofChecker" (95 : Nat) "KnowHouse$ProofChecker$Equal") ∈ lw_all := lw_g (lw_at lw_m3 157 rfl) rfl
theorem q1116 : (Jvm.Cond.instantiable "KnowHouse$ProofChecker$Equal" (2 : Nat)) ∈ lw_all := lw_g (lw_at lw_m3 158 rfl) rfl
theorem q1117 : (Jvm.Cond.methodLink "KnowHouse$ProofChecker" (97 : Nat) ({ cls := "KnowHouse$ProofChecker$Equal", name := "<init>", desc := "()V" } : Jvm.MethodName)) ∈ lw_all := lw_g (lw_at lw_m3 159 rfl) rfl
theorem q1118 : (Jvm.Cond.instanceMethod ({ cls := "KnowHouse$ProofChecker$Equal", name := "<init>", desc := "()V" } : Jvm.MethodName)) ∈ lw_all := lw_g (lw_at lw_m3 160 rfl) rfl
theorem q1119 : (Jvm.Cond.code ({ cls := "KnowHouse$ProofChecker$Equal", name := "<init>", desc := "()V" } : Jvm.MethodName) prog_31_method_1_code (1 : Nat) (Option.none : Option Jvm.ClassFile.FieldType)) ∈ lw_all := lw_g (lw_at lw_m3 161 rfl) rfl
theorem q1121 : (Jvm.Cond.methodLink "KnowHouse$ProofChecker$Equal" (5 : Nat) ({ cls := "KnowHouse$ProofChecker$Plain", name := "<init>", desc := "(ILjava/lang/String;)V" } : Jvm.MethodName)) ∈ lw_all := lw_g (lw_at lw_m3 163 rfl) rfl
theorem q1125 : (Jvm.Cond.classLink "KnowHouse$ProofChecker" (98 : Nat) "KnowHouse$ProofChecker$One") ∈ lw_all := lw_g (lw_at lw_m3 167 rfl) rfl
theorem q1126 : (Jvm.Cond.instantiable "KnowHouse$ProofChecker$One" (3 : Nat)) ∈ lw_all := lw_g (lw_at lw_m3 168 rfl) rfl
theorem q1127 : (Jvm.Cond.methodLink "KnowHouse$ProofChecker" (100 : Nat) ({ cls := "KnowHouse$ProofChecker$One", name := "<init>", desc := "()V" } : Jvm.MethodName)) ∈ lw_all := lw_g (lw_at lw_m3 169 rfl) rfl
theorem q1128 : (Jvm.Cond.instanceMethod ({ cls := "KnowHouse$ProofChecker$One", name := "<init>", desc := "()V" } : Jvm.MethodName)) ∈ lw_all := lw_g (lw_at lw_m3 170 rfl) rfl
theorem q1129 : (Jvm.Cond.code ({ cls := "KnowHouse$ProofChecker$One", name := "<init>", desc := "()V" } : Jvm.MethodName) prog_36_method_1_code (1 : Nat) (Option.none : Option Jvm.ClassFile.FieldType)) ∈ lw_all := lw_g (lw_at lw_m3 171 rfl) rfl
theorem q1131 : (Jvm.Cond.methodLink "KnowHouse$ProofChecker$One" (5 : Nat) ({ cls := "KnowHouse$ProofChecker$OfProperty", name := "<init>", desc := "(IILjava/lang/String;)V" } : Jvm.MethodName)) ∈ lw_all := lw_g (lw_at lw_m3 173 rfl) rfl
theorem q1136 : (Jvm.Cond.classLink "KnowHouse$ProofChecker" (101 : Nat) "KnowHouse$ProofChecker$Apart") ∈ lw_all := lw_g (lw_at lw_m3 178 rfl) rfl
theorem q1137 : (Jvm.Cond.instantiable "KnowHouse$ProofChecker$Apart" (2 : Nat)) ∈ lw_all := lw_g (lw_at lw_m3 179 rfl) rfl
theorem q1138 : (Jvm.Cond.methodLink "KnowHouse$ProofChecker" (103 : Nat) ({ cls := "KnowHouse$ProofChecker$Apart", name := "<init>", desc := "()V" } : Jvm.MethodName)) ∈ lw_all := lw_g (lw_at lw_m3 180 rfl) rfl
theorem q1139 : (Jvm.Cond.instanceMethod ({ cls := "KnowHouse$ProofChecker$Apart", name := "<init>", desc := "()V" } : Jvm.MethodName)) ∈ lw_all := lw_g (lw_at lw_m3 181 rfl) rfl
theorem q1140 : (Jvm.Cond.code ({ cls := "KnowHouse$ProofChecker$Apart", name := "<init>", desc := "()V" } : Jvm.MethodName) prog_26_method_1_code (1 : Nat) (Option.none : Option Jvm.ClassFile.FieldType)) ∈ lw_all := lw_g (lw_at lw_m3 182 rfl) rfl
theorem q1142 : (Jvm.Cond.methodLink "KnowHouse$ProofChecker$Apart" (5 : Nat) ({ cls := "KnowHouse$ProofChecker$Plain", name := "<init>", desc := "(ILjava/lang/String;)V" } : Jvm.MethodName)) ∈ lw_all := lw_g (lw_at lw_m3 184 rfl) rfl
theorem q1146 : (Jvm.Cond.classLink "KnowHouse$ProofChecker" (104 : Nat) "KnowHouse$ProofChecker$Not") ∈ lw_all := lw_g (lw_at lw_m3 188 rfl) rfl
theorem q1147 : (Jvm.Cond.instantiable "KnowHouse$ProofChecker$Not" (2 : Nat)) ∈ lw_all := lw_g (lw_at lw_m3 189 rfl) rfl
theorem q1148 : (Jvm.Cond.methodLink "KnowHouse$ProofChecker" (106 : Nat) ({ cls := "KnowHouse$ProofChecker$Not", name := "<init>", desc := "()V" } : Jvm.MethodName)) ∈ lw_all := lw_g (lw_at lw_m3 190 rfl) rfl
theorem q1149 : (Jvm.Cond.instanceMethod ({ cls := "KnowHouse$ProofChecker$Not", name := "<init>", desc := "()V" } : Jvm.MethodName)) ∈ lw_all := lw_g (lw_at lw_m3 191 rfl) rfl
theorem q1150 : (Jvm.Cond.code ({ cls := "KnowHouse$ProofChecker$Not", name := "<init>", desc := "()V" } : Jvm.MethodName) prog_34_method_1_code (1 : Nat) (Option.none : Option Jvm.ClassFile.FieldType)) ∈ lw_all := lw_g (lw_at lw_m3 192 rfl) rfl
theorem q1152 : (Jvm.Cond.methodLink "KnowHouse$ProofChecker$Not" (5 : Nat) ({ cls := "KnowHouse$ProofChecker$Plain", name := "<init>", desc := "(ILjava/lang/String;)V" } : Jvm.MethodName)) ∈ lw_all := lw_g (lw_at lw_m3 194 rfl) rfl
theorem q1156 : (Jvm.Cond.instantiable "KnowHouse$ProofChecker$Row" (7 : Nat)) ∈ lw_all := lw_g (lw_at lw_m3 198 rfl) rfl
theorem q1157 : (Jvm.Cond.methodLinkNest "KnowHouse$ProofChecker" (107 : Nat) ({ cls := "KnowHouse$ProofChecker$Row", name := "<init>", desc := "()V" } : Jvm.MethodName) "KnowHouse") ∈ lw_tbl := lw_at lw_m3 199 rfl
theorem q1158 : (Jvm.Cond.instanceMethod ({ cls := "KnowHouse$ProofChecker$Row", name := "<init>", desc := "()V" } : Jvm.MethodName)) ∈ lw_all := lw_g (lw_at lw_m3 200 rfl) rfl
theorem q1159 : (Jvm.Cond.code ({ cls := "KnowHouse$ProofChecker$Row", name := "<init>", desc := "()V" } : Jvm.MethodName) prog_39_method_1_code (1 : Nat) (Option.none : Option Jvm.ClassFile.FieldType)) ∈ lw_all := lw_g (lw_at lw_m3 201 rfl) rfl
theorem q1160 : (Jvm.Cond.methodLink "KnowHouse$ProofChecker$Row" (1 : Nat) ({ cls := "java/lang/Object", name := "<init>", desc := "()V" } : Jvm.MethodName)) ∈ lw_all := lw_g (lw_at lw_m3 202 rfl) rfl
theorem q1161 : (Jvm.Cond.classLink "KnowHouse$ProofChecker$Row" (13 : Nat) "KnowHouse$ProofChecker$Statement") ∈ lw_all := lw_g (lw_at lw_m3 203 rfl) rfl
theorem q1162 : (Jvm.Cond.methodLinkNest "KnowHouse$ProofChecker$Row" (15 : Nat) ({ cls := "KnowHouse$ProofChecker$Statement", name := "<init>", desc := "()V" } : Jvm.MethodName) "KnowHouse") ∈ lw_tbl := lw_at lw_m3 204 rfl
theorem q1163 : (Jvm.Cond.fieldLink "KnowHouse$ProofChecker$Row" (20 : Nat) "KnowHouse$ProofChecker$Row" "rule" "I") ∈ lw_all := lw_g (lw_at lw_m3 205 rfl) rfl
theorem q1164 : (Jvm.Cond.fieldLinkNest "KnowHouse$ProofChecker" (155 : Nat) "KnowHouse$ProofChecker$Row" "rule" "I" "KnowHouse") ∈ lw_tbl := lw_at lw_m3 206 rfl
theorem q1165 : (Jvm.Cond.fieldLink "KnowHouse$ProofChecker$Row" (24 : Nat) "KnowHouse$ProofChecker$Row" "instance" "I") ∈ lw_all := lw_g (lw_at lw_m3 207 rfl) rfl
theorem q1166 : (Jvm.Cond.fieldLinkNest "KnowHouse$ProofChecker" (182 : Nat) "KnowHouse$ProofChecker$Row" "instance" "I" "KnowHouse") ∈ lw_tbl := lw_at lw_m3 208 rfl
theorem q1167 : (Jvm.Cond.fieldLink "KnowHouse$ProofChecker$Row" (7 : Nat) "KnowHouse$ProofChecker$Row" "premises" "[I") ∈ lw_all := lw_g (lw_at lw_m3 209 rfl) rfl
theorem q1168 : (Jvm.Cond.fieldLinkNest "KnowHouse$ProofChecker" (150 : Nat) "KnowHouse$ProofChecker$Row" "premises" "[I" "KnowHouse") ∈ lw_tbl := lw_at lw_m3 210 rfl
theorem q1169 : (Jvm.Cond.fieldLink "KnowHouse$ProofChecker$Row" (27 : Nat) "KnowHouse$ProofChecker$Row" "count" "I") ∈ lw_all := lw_g (lw_at lw_m3 211 rfl) rfl
theorem q1170 : (Jvm.Cond.fieldLinkNest "KnowHouse$ProofChecker" (152 : Nat) "KnowHouse$ProofChecker$Row" "count" "I" "KnowHouse") ∈ lw_tbl := lw_at lw_m3 212 rfl
theorem q1171 : (Jvm.Cond.fieldLink "KnowHouse$ProofChecker$Row" (16 : Nat) "KnowHouse$ProofChecker$Row" "states" "LKnowHouse$ProofChecker$Statement;") ∈ lw_all := lw_g (lw_at lw_m3 213 rfl) rfl
theorem q1172 : (Jvm.Cond.fieldLinkNest "KnowHouse$ProofChecker" (171 : Nat) "KnowHouse$ProofChecker$Row" "states" "LKnowHouse$ProofChecker$Statement;" "KnowHouse") ∈ lw_tbl := lw_at lw_m3 214 rfl
theorem q1173 : (Jvm.Cond.fieldLinkNest "KnowHouse$ProofChecker" (167 : Nat) "KnowHouse$ProofChecker$Row" "right" "Z" "KnowHouse") ∈ lw_tbl := lw_at lw_m3 215 rfl
theorem q1174 : (Jvm.Cond.fieldLinkNest "KnowHouse$ProofChecker" (174 : Nat) "KnowHouse$ProofChecker$Row" "size" "I" "KnowHouse") ∈ lw_tbl := lw_at lw_m3 216 rfl
theorem q1190 : (Jvm.Cond.fieldLink "KnowHouse$ProofChecker" (20 : Nat) "KnowHouse$ProofChecker" "rules" "[LKnowHouse$ProofChecker$Rule;") ∈ lw_all := lw_g (lw_at lw_m3 232 rfl) rfl
theorem q1191 : (Jvm.Cond.fieldLinkNest "KnowHouse$ProofChecker$Axiom" (9 : Nat) "KnowHouse$ProofChecker" "axioms" "[LKnowHouse$ProofChecker$Statement;" "KnowHouse") ∈ lw_tbl := lw_at lw_m3 233 rfl
theorem q1192 : (Jvm.Cond.fieldLink "KnowHouse$ProofChecker" (24 : Nat) "KnowHouse$ProofChecker" "axioms" "[LKnowHouse$ProofChecker$Statement;") ∈ lw_all := lw_g (lw_at lw_m3 234 rfl) rfl
theorem q1193 : (Jvm.Cond.fieldLink "KnowHouse$ProofChecker" (115 : Nat) "KnowHouse$ProofChecker" "axiomCount" "I") ∈ lw_all := lw_g (lw_at lw_m3 235 rfl) rfl
theorem q1194 : (Jvm.Cond.fieldLinkNest "KnowHouse$ProofChecker$Given" (19 : Nat) "KnowHouse$ProofChecker" "givens" "[LKnowHouse$ProofChecker$Statement;" "KnowHouse") ∈ lw_tbl := lw_at lw_m3 236 rfl
theorem q1195 : (Jvm.Cond.fieldLink "KnowHouse$ProofChecker" (28 : Nat) "KnowHouse$ProofChecker" "givens" "[LKnowHouse$ProofChecker$Statement;") ∈ lw_all := lw_g (lw_at lw_m3 237 rfl) rfl
theorem q1196 : (Jvm.Cond.fieldLink "KnowHouse$ProofChecker" (122 : Nat) "KnowHouse$ProofChecker" "givenCount" "I") ∈ lw_all := lw_g (lw_at lw_m3 238 rfl) rfl
theorem q1197 : (Jvm.Cond.fieldLink "KnowHouse$ProofChecker" (32 : Nat) "KnowHouse$ProofChecker" "wanted" "LKnowHouse$ProofChecker$Statement;") ∈ lw_all := lw_g (lw_at lw_m3 239 rfl) rfl
theorem q1198 : (Jvm.Cond.fieldLink "KnowHouse$ProofChecker" (38 : Nat) "KnowHouse$ProofChecker" "rows" "[LKnowHouse$ProofChecker$Row;") ∈ lw_all := lw_g (lw_at lw_m4 0 rfl) rfl
theorem q1199 : (Jvm.Cond.fieldLink "KnowHouse$ProofChecker" (133 : Nat) "KnowHouse$ProofChecker" "rowCount" "I") ∈ lw_all := lw_g (lw_at lw_m4 1 rfl) rfl
theorem q1200 : (Jvm.Cond.fieldLink "KnowHouse$ProofChecker" (158 : Nat) "KnowHouse$ProofChecker" "looked" "I") ∈ lw_all := lw_g (lw_at lw_m4 2 rfl) rfl
theorem q1201 : (Jvm.Cond.fieldLink "KnowHouse$ProofChecker" (42 : Nat) "KnowHouse$ProofChecker" "from" "[LKnowHouse$ProofChecker$Statement;") ∈ lw_all := lw_g (lw_at lw_m4 3 rfl) rfl
theorem q1202 : (Jvm.Cond.fieldLink "KnowHouse$ProofChecker" (45 : Nat) "KnowHouse$ProofChecker" "needed" "[Z") ∈ lw_all := lw_g (lw_at lw_m4 4 rfl) rfl
theorem q1203 : (Jvm.Cond.fieldLink "KnowHouse$ProofChecker" (197 : Nat) "KnowHouse$ProofChecker" "broken" "I") ∈ lw_all := lw_g (lw_at lw_m4 5 rfl) rfl
theorem q1204 : (Jvm.Cond.fieldLink "KnowHouse$ProofChecker" (49 : Nat) "KnowHouse$ProofChecker" "places" "[I") ∈ lw_all := lw_g (lw_at lw_m4 6 rfl) rfl
theorem q1205 : (Jvm.Cond.fieldLink "KnowHouse$ProofChecker" (53 : Nat) "KnowHouse$ProofChecker" "text" "[B") ∈ lw_all := lw_g (lw_at lw_m4 7 rfl) rfl
theorem q1206 : (Jvm.Cond.fieldLink "KnowHouse$ProofChecker" (219 : Nat) "KnowHouse$ProofChecker" "size" "I") ∈ lw_all := lw_g (lw_at lw_m4 8 rfl) rfl
theorem q3792 : (Jvm.Cond.static ({ cls := "java/lang/Math", name := "min", desc := "(JJ)J" } : Jvm.MethodName)) ∈ lw_all := lw_g (lw_at lw_m14 194 rfl) rfl
theorem q3793 : (Jvm.Cond.code ({ cls := "java/lang/Math", name := "min", desc := "(JJ)J" } : Jvm.MethodName) prog_106_method_70_code (4 : Nat) (Option.some Jvm.ClassFile.FieldType.long)) ∈ lw_all := lw_g (lw_at lw_m14 195 rfl) rfl
theorem q4565 : (Jvm.Cond.methodLink "KnowHouse$ProofChecker" (108 : Nat) ({ cls := "KnowHouse$ProofChecker", name := "isTerm", desc := "(I)Z" } : Jvm.MethodName)) ∈ lw_all := lw_g (lw_at lw_m18 7 rfl) rfl
theorem q4566 : (Jvm.Cond.static ({ cls := "KnowHouse$ProofChecker", name := "isTerm", desc := "(I)Z" } : Jvm.MethodName)) ∈ lw_all := lw_g (lw_at lw_m18 8 rfl) rfl
theorem q4567 : (Jvm.Cond.code ({ cls := "KnowHouse$ProofChecker", name := "isTerm", desc := "(I)Z" } : Jvm.MethodName) prog_25_method_3_code (1 : Nat) (Option.some Jvm.ClassFile.FieldType.boolean)) ∈ lw_all := lw_g (lw_at lw_m18 9 rfl) rfl
theorem q4568 : (Jvm.Cond.methodLink "KnowHouse$ProofChecker" (112 : Nat) ({ cls := "KnowHouse$ProofChecker", name := "isAlone", desc := "(I)Z" } : Jvm.MethodName)) ∈ lw_all := lw_g (lw_at lw_m18 10 rfl) rfl
theorem q4569 : (Jvm.Cond.static ({ cls := "KnowHouse$ProofChecker", name := "isAlone", desc := "(I)Z" } : Jvm.MethodName)) ∈ lw_all := lw_g (lw_at lw_m18 11 rfl) rfl
theorem q4570 : (Jvm.Cond.code ({ cls := "KnowHouse$ProofChecker", name := "isAlone", desc := "(I)Z" } : Jvm.MethodName) prog_25_method_4_code (1 : Nat) (Option.some Jvm.ClassFile.FieldType.boolean)) ∈ lw_all := lw_g (lw_at lw_m18 12 rfl) rfl
theorem q4571 : (Jvm.Cond.methodLink "KnowHouse$ProofChecker" (118 : Nat) ({ cls := "KnowHouse$ProofChecker$Statement", name := "set", desc := "(IIII)V" } : Jvm.MethodName)) ∈ lw_all := lw_g (lw_at lw_m18 13 rfl) rfl
theorem q4572 : (Jvm.Cond.instanceMethod ({ cls := "KnowHouse$ProofChecker$Statement", name := "set", desc := "(IIII)V" } : Jvm.MethodName)) ∈ lw_all := lw_g (lw_at lw_m18 14 rfl) rfl
theorem q4573 : (Jvm.Cond.selects "KnowHouse$ProofChecker$Statement" ({ cls := "KnowHouse$ProofChecker$Statement", name := "set", desc := "(IIII)V" } : Jvm.MethodName) ({ cls := "KnowHouse$ProofChecker$Statement", name := "set", desc := "(IIII)V" } : Jvm.MethodName)) ∈ lw_all := lw_g (lw_at lw_m18 15 rfl) rfl
theorem q4574 : (Jvm.Cond.code ({ cls := "KnowHouse$ProofChecker$Statement", name := "set", desc := "(IIII)V" } : Jvm.MethodName) prog_41_method_2_code (5 : Nat) (Option.none : Option Jvm.ClassFile.FieldType)) ∈ lw_all := lw_g (lw_at lw_m18 16 rfl) rfl
theorem q4579 : (Jvm.Cond.methodLink "KnowHouse$ProofChecker" (125 : Nat) ({ cls := "KnowHouse$ProofChecker$Statement", name := "is", desc := "(LKnowHouse$ProofChecker$Statement;)Z" } : Jvm.MethodName)) ∈ lw_all := lw_g (lw_at lw_m18 21 rfl) rfl
theorem q4580 : (Jvm.Cond.instanceMethod ({ cls := "KnowHouse$ProofChecker$Statement", name := "is", desc := "(LKnowHouse$ProofChecker$Statement;)Z" } : Jvm.MethodName)) ∈ lw_all := lw_g (lw_at lw_m18 22 rfl) rfl
theorem q4581 : (Jvm.Cond.selects "KnowHouse$ProofChecker$Statement" ({ cls := "KnowHouse$ProofChecker$Statement", name := "is", desc := "(LKnowHouse$ProofChecker$Statement;)Z" } : Jvm.MethodName) ({ cls := "KnowHouse$ProofChecker$Statement", name := "is", desc := "(LKnowHouse$ProofChecker$Statement;)Z" } : Jvm.MethodName)) ∈ lw_all := lw_g (lw_at lw_m18 23 rfl) rfl
theorem q4582 : (Jvm.Cond.code ({ cls := "KnowHouse$ProofChecker$Statement", name := "is", desc := "(LKnowHouse$ProofChecker$Statement;)Z" } : Jvm.MethodName) prog_41_method_4_code (2 : Nat) (Option.some Jvm.ClassFile.FieldType.boolean)) ∈ lw_all := lw_g (lw_at lw_m18 24 rfl) rfl
theorem q4583 : (Jvm.Cond.methodLink "KnowHouse$ProofChecker" (129 : Nat) ({ cls := "KnowHouse$ProofChecker$Statement", name := "copy", desc := "(LKnowHouse$ProofChecker$Statement;)V" } : Jvm.MethodName)) ∈ lw_all := lw_g (lw_at lw_m18 25 rfl) rfl
theorem q4584 : (Jvm.Cond.instanceMethod ({ cls := "KnowHouse$ProofChecker$Statement", name := "copy", desc := "(LKnowHouse$ProofChecker$Statement;)V" } : Jvm.MethodName)) ∈ lw_all := lw_g (lw_at lw_m18 26 rfl) rfl
theorem q4585 : (Jvm.Cond.selects "KnowHouse$ProofChecker$Statement" ({ cls := "KnowHouse$ProofChecker$Statement", name := "copy", desc := "(LKnowHouse$ProofChecker$Statement;)V" } : Jvm.MethodName) ({ cls := "KnowHouse$ProofChecker$Statement", name := "copy", desc := "(LKnowHouse$ProofChecker$Statement;)V" } : Jvm.MethodName)) ∈ lw_all := lw_g (lw_at lw_m18 27 rfl) rfl
theorem q4586 : (Jvm.Cond.code ({ cls := "KnowHouse$ProofChecker$Statement", name := "copy", desc := "(LKnowHouse$ProofChecker$Statement;)V" } : Jvm.MethodName) prog_41_method_3_code (2 : Nat) (Option.none : Option Jvm.ClassFile.FieldType)) ∈ lw_all := lw_g (lw_at lw_m18 28 rfl) rfl
theorem q4587 : (Jvm.Cond.methodLink "KnowHouse$ProofChecker$Statement" (22 : Nat) ({ cls := "KnowHouse$ProofChecker$Statement", name := "set", desc := "(IIII)V" } : Jvm.MethodName)) ∈ lw_all := lw_g (lw_at lw_m18 29 rfl) rfl
theorem q4592 : (Jvm.Cond.methodLink "KnowHouse$ProofChecker" (136 : Nat) ({ cls := "KnowHouse$ProofChecker", name := "isInstance", desc := "(II)Z" } : Jvm.MethodName)) ∈ lw_all := lw_g (lw_at lw_m18 34 rfl) rfl
theorem q4594 : (Jvm.Cond.instanceMethod ({ cls := "KnowHouse$ProofChecker", name := "isInstance", desc := "(II)Z" } : Jvm.MethodName)) ∈ lw_all := lw_g (lw_at lw_m18 36 rfl) rfl
theorem q4595 : (Jvm.Cond.code ({ cls := "KnowHouse$ProofChecker", name := "isInstance", desc := "(II)Z" } : Jvm.MethodName) prog_25_method_8_code (3 : Nat) (Option.some Jvm.ClassFile.FieldType.boolean)) ∈ lw_all := lw_g (lw_at lw_m18 37 rfl) rfl
theorem q4596 : (Jvm.Cond.methodLink "KnowHouse$ProofChecker" (140 : Nat) ({ cls := "KnowHouse$ProofChecker", name := "isRow", desc := "(I)Z" } : Jvm.MethodName)) ∈ lw_all := lw_g (lw_at lw_m18 38 rfl) rfl
theorem q4598 : (Jvm.Cond.instanceMethod ({ cls := "KnowHouse$ProofChecker", name := "isRow", desc := "(I)Z" } : Jvm.MethodName)) ∈ lw_all := lw_g (lw_at lw_m18 40 rfl) rfl
theorem q4599 : (Jvm.Cond.code ({ cls := "KnowHouse$ProofChecker", name := "isRow", desc := "(I)Z" } : Jvm.MethodName) prog_25_method_7_code (2 : Nat) (Option.some Jvm.ClassFile.FieldType.boolean)) ∈ lw_all := lw_g (lw_at lw_m18 41 rfl) rfl
theorem q4601 : (Jvm.Cond.methodLink "KnowHouse$ProofChecker" (143 : Nat) ({ cls := "KnowHouse$ProofChecker$Rule", name := "premises", desc := "()I" } : Jvm.MethodName)) ∈ lw_all := lw_g (lw_at lw_m18 43 rfl) rfl
theorem q4604 : (Jvm.Cond.castable "KnowHouse$ProofChecker$Apart" "KnowHouse$ProofChecker$Rule") ∈ lw_tbl := lw_at lw_m18 46 rfl
theorem q4605 : (Jvm.Cond.selects "KnowHouse$ProofChecker$Apart" ({ cls := "KnowHouse$ProofChecker$Rule", name := "premises", desc := "()I" } : Jvm.MethodName) ({ cls := "KnowHouse$ProofChecker$Plain", name := "premises", desc := "()I" } : Jvm.MethodName)) ∈ lw_all := lw_g (lw_at lw_m18 47 rfl) rfl
theorem q4607 : (Jvm.Cond.instanceMethod ({ cls := "KnowHouse$ProofChecker$Plain", name := "premises", desc := "()I" } : Jvm.MethodName)) ∈ lw_all := lw_g (lw_at lw_m18 49 rfl) rfl
theorem q4609 : (Jvm.Cond.code ({ cls := "KnowHouse$ProofChecker$Plain", name := "premises", desc := "()I" } : Jvm.MethodName) prog_37_method_2_code (1 : Nat) (Option.some Jvm.ClassFile.FieldType.int)) ∈ lw_all := lw_g (lw_at lw_m18 51 rfl) rfl
theorem q4610 : (Jvm.Cond.castable "KnowHouse$ProofChecker$Axiom" "KnowHouse$ProofChecker$Rule") ∈ lw_tbl := lw_at lw_m18 52 rfl
theorem q4611 : (Jvm.Cond.selects "KnowHouse$ProofChecker$Axiom" ({ cls := "KnowHouse$ProofChecker$Rule", name := "premises", desc := "()I" } : Jvm.MethodName) ({ cls := "KnowHouse$ProofChecker$Plain", name := "premises", desc := "()I" } : Jvm.MethodName)) ∈ lw_all := lw_g (lw_at lw_m18 53 rfl) rfl
theorem q4613 : (Jvm.Cond.castable "KnowHouse$ProofChecker$Chain" "KnowHouse$ProofChecker$Rule") ∈ lw_tbl := lw_at lw_m18 55 rfl
theorem q4614 : (Jvm.Cond.selects "KnowHouse$ProofChecker$Chain" ({ cls := "KnowHouse$ProofChecker$Rule", name := "premises", desc := "()I" } : Jvm.MethodName) ({ cls := "KnowHouse$ProofChecker$Plain", name := "premises", desc := "()I" } : Jvm.MethodName)) ∈ lw_all := lw_g (lw_at lw_m18 56 rfl) rfl
theorem q4616 : (Jvm.Cond.castable "KnowHouse$ProofChecker$ClassRule" "KnowHouse$ProofChecker$Rule") ∈ lw_tbl := lw_at lw_m18 58 rfl
theorem q4617 : (Jvm.Cond.selects "KnowHouse$ProofChecker$ClassRule" ({ cls := "KnowHouse$ProofChecker$Rule", name := "premises", desc := "()I" } : Jvm.MethodName) ({ cls := "KnowHouse$ProofChecker$Plain", name := "premises", desc := "()I" } : Jvm.MethodName)) ∈ lw_all := lw_g (lw_at lw_m18 59 rfl) rfl
theorem q4619 : (Jvm.Cond.castable "KnowHouse$ProofChecker$End" "KnowHouse$ProofChecker$Rule") ∈ lw_tbl := lw_at lw_m18 61 rfl
theorem q4620 : (Jvm.Cond.selects "KnowHouse$ProofChecker$End" ({ cls := "KnowHouse$ProofChecker$Rule", name := "premises", desc := "()I" } : Jvm.MethodName) ({ cls := "KnowHouse$ProofChecker$Plain", name := "premises", desc := "()I" } : Jvm.MethodName)) ∈ lw_all := lw_g (lw_at lw_m18 62 rfl) rfl
theorem q4622 : (Jvm.Cond.castable "KnowHouse$ProofChecker$Equal" "KnowHouse$ProofChecker$Rule") ∈ lw_tbl := lw_at lw_m18 64 rfl
theorem q4623 : (Jvm.Cond.selects "KnowHouse$ProofChecker$Equal" ({ cls := "KnowHouse$ProofChecker$Rule", name := "premises", desc := "()I" } : Jvm.MethodName) ({ cls := "KnowHouse$ProofChecker$Plain", name := "premises", desc := "()I" } : Jvm.MethodName)) ∈ lw_all := lw_g (lw_at lw_m18 65 rfl) rfl
theorem q4625 : (Jvm.Cond.castable "KnowHouse$ProofChecker$Given" "KnowHouse$ProofChecker$Rule") ∈ lw_tbl := lw_at lw_m18 67 rfl
theorem q4626 : (Jvm.Cond.selects "KnowHouse$ProofChecker$Given" ({ cls := "KnowHouse$ProofChecker$Rule", name := "premises", desc := "()I" } : Jvm.MethodName) ({ cls := "KnowHouse$ProofChecker$Plain", name := "premises", desc := "()I" } : Jvm.MethodName)) ∈ lw_all := lw_g (lw_at lw_m18 68 rfl) rfl
theorem q4628 : (Jvm.Cond.castable "KnowHouse$ProofChecker$Itself" "KnowHouse$ProofChecker$Rule") ∈ lw_tbl := lw_at lw_m18 70 rfl
theorem q4629 : (Jvm.Cond.selects "KnowHouse$ProofChecker$Itself" ({ cls := "KnowHouse$ProofChecker$Rule", name := "premises", desc := "()I" } : Jvm.MethodName) ({ cls := "KnowHouse$ProofChecker$Plain", name := "premises", desc := "()I" } : Jvm.MethodName)) ∈ lw_all := lw_g (lw_at lw_m18 71 rfl) rfl
theorem q4631 : (Jvm.Cond.castable "KnowHouse$ProofChecker$Not" "KnowHouse$ProofChecker$Rule") ∈ lw_tbl := lw_at lw_m18 73 rfl
theorem q4632 : (Jvm.Cond.selects "KnowHouse$ProofChecker$Not" ({ cls := "KnowHouse$ProofChecker$Rule", name := "premises", desc := "()I" } : Jvm.MethodName) ({ cls := "KnowHouse$ProofChecker$Plain", name := "premises", desc := "()I" } : Jvm.MethodName)) ∈ lw_all := lw_g (lw_at lw_m18 74 rfl) rfl
theorem q4634 : (Jvm.Cond.castable "KnowHouse$ProofChecker$One" "KnowHouse$ProofChecker$Rule") ∈ lw_tbl := lw_at lw_m18 76 rfl
theorem q4635 : (Jvm.Cond.selects "KnowHouse$ProofChecker$One" ({ cls := "KnowHouse$ProofChecker$Rule", name := "premises", desc := "()I" } : Jvm.MethodName) ({ cls := "KnowHouse$ProofChecker$Plain", name := "premises", desc := "()I" } : Jvm.MethodName)) ∈ lw_all := lw_g (lw_at lw_m18 77 rfl) rfl
theorem q4637 : (Jvm.Cond.castable "KnowHouse$ProofChecker$Property" "KnowHouse$ProofChecker$Rule") ∈ lw_tbl := lw_at lw_m18 79 rfl
theorem q4638 : (Jvm.Cond.selects "KnowHouse$ProofChecker$Property" ({ cls := "KnowHouse$ProofChecker$Rule", name := "premises", desc := "()I" } : Jvm.MethodName) ({ cls := "KnowHouse$ProofChecker$Plain", name := "premises", desc := "()I" } : Jvm.MethodName)) ∈ lw_all := lw_g (lw_at lw_m18 80 rfl) rfl
theorem q4640 : (Jvm.Cond.castable "KnowHouse$ProofChecker$Swap" "KnowHouse$ProofChecker$Rule") ∈ lw_tbl := lw_at lw_m18 82 rfl
theorem q4641 : (Jvm.Cond.selects "KnowHouse$ProofChecker$Swap" ({ cls := "KnowHouse$ProofChecker$Rule", name := "premises", desc := "()I" } : Jvm.MethodName) ({ cls := "KnowHouse$ProofChecker$Plain", name := "premises", desc := "()I" } : Jvm.MethodName)) ∈ lw_all := lw_g (lw_at lw_m18 83 rfl) rfl
theorem q4643 : (Jvm.Cond.castable "KnowHouse$ProofChecker$Through" "KnowHouse$ProofChecker$Rule") ∈ lw_tbl := lw_at lw_m18 85 rfl
theorem q4644 : (Jvm.Cond.selects "KnowHouse$ProofChecker$Through" ({ cls := "KnowHouse$ProofChecker$Rule", name := "premises", desc := "()I" } : Jvm.MethodName) ({ cls := "KnowHouse$ProofChecker$Plain", name := "premises", desc := "()I" } : Jvm.MethodName)) ∈ lw_all := lw_g (lw_at lw_m18 86 rfl) rfl
theorem q4646 : (Jvm.Cond.castable "KnowHouse$ProofChecker$Turn" "KnowHouse$ProofChecker$Rule") ∈ lw_tbl := lw_at lw_m18 88 rfl
theorem q4647 : (Jvm.Cond.selects "KnowHouse$ProofChecker$Turn" ({ cls := "KnowHouse$ProofChecker$Rule", name := "premises", desc := "()I" } : Jvm.MethodName) ({ cls := "KnowHouse$ProofChecker$Plain", name := "premises", desc := "()I" } : Jvm.MethodName)) ∈ lw_all := lw_g (lw_at lw_m18 89 rfl) rfl
theorem q4649 : (Jvm.Cond.methodLink "KnowHouse$ProofChecker" (147 : Nat) ({ cls := "KnowHouse$ProofChecker$Row", name := "set", desc := "(II)V" } : Jvm.MethodName)) ∈ lw_all := lw_g (lw_at lw_m18 91 rfl) rfl
theorem q4650 : (Jvm.Cond.instanceMethod ({ cls := "KnowHouse$ProofChecker$Row", name := "set", desc := "(II)V" } : Jvm.MethodName)) ∈ lw_all := lw_g (lw_at lw_m18 92 rfl) rfl
theorem q4651 : (Jvm.Cond.selects "KnowHouse$ProofChecker$Row" ({ cls := "KnowHouse$ProofChecker$Row", name := "set", desc := "(II)V" } : Jvm.MethodName) ({ cls := "KnowHouse$ProofChecker$Row", name := "set", desc := "(II)V" } : Jvm.MethodName)) ∈ lw_all := lw_g (lw_at lw_m18 93 rfl) rfl
theorem q4652 : (Jvm.Cond.code ({ cls := "KnowHouse$ProofChecker$Row", name := "set", desc := "(II)V" } : Jvm.MethodName) prog_39_method_2_code (3 : Nat) (Option.none : Option Jvm.ClassFile.FieldType)) ∈ lw_all := lw_g (lw_at lw_m18 94 rfl) rfl
theorem q4657 : (Jvm.Cond.methodLink "KnowHouse$ProofChecker" (161 : Nat) ({ cls := "java/lang/Math", name := "min", desc := "(II)I" } : Jvm.MethodName)) ∈ lw_all := lw_g (lw_at lw_m18 99 rfl) rfl
theorem q4662 : (Jvm.Cond.methodLink "KnowHouse$ProofChecker" (189 : Nat) ({ cls := "KnowHouse$ProofChecker", name := "look", desc := "(I)V" } : Jvm.MethodName)) ∈ lw_all := lw_g (lw_at lw_m18 104 rfl) rfl
theorem q4664 : (Jvm.Cond.instanceMethod ({ cls := "KnowHouse$ProofChecker", name := "look", desc := "(I)V" } : Jvm.MethodName)) ∈ lw_all := lw_g (lw_at lw_m18 106 rfl) rfl
theorem q4665 : (Jvm.Cond.code ({ cls := "KnowHouse$ProofChecker", name := "look", desc := "(I)V" } : Jvm.MethodName) prog_25_method_11_code (7 : Nat) (Option.none : Option Jvm.ClassFile.FieldType)) ∈ lw_all := lw_g (lw_at lw_m18 107 rfl) rfl
theorem q4666 : (Jvm.Cond.constantLong "KnowHouse$ProofChecker" (177 : Nat) (1000000000 : Int64)) ∈ lw_all := lw_g (lw_at lw_m18 108 rfl) rfl
theorem q4667 : (Jvm.Cond.methodLink "KnowHouse$ProofChecker" (179 : Nat) ({ cls := "java/lang/Math", name := "min", desc := "(JJ)J" } : Jvm.MethodName)) ∈ lw_all := lw_g (lw_at lw_m18 109 rfl) rfl
theorem q4669 : (Jvm.Cond.methodLink "KnowHouse$ProofChecker" (185 : Nat) ({ cls := "KnowHouse$ProofChecker$Rule", name := "give", desc := "(LKnowHouse$ProofChecker;I[LKnowHouse$ProofChecker$Statement;LKnowHouse$ProofChecker$Statement;)Z" } : Jvm.MethodName)) ∈ lw_all := lw_g (lw_at lw_m18 111 rfl) rfl
theorem q4672 : (Jvm.Cond.selects "KnowHouse$ProofChecker$Apart" ({ cls := "KnowHouse$ProofChecker$Rule", name := "give", desc := "(LKnowHouse$ProofChecker;I[LKnowHouse$ProofChecker$Statement;LKnowHouse$ProofChecker$Statement;)Z" } : Jvm.MethodName) ({ cls := "KnowHouse$ProofChecker$Apart", name := "give", desc := "(LKnowHouse$ProofChecker;I[LKnowHouse$ProofChecker$Statement;LKnowHouse$ProofChecker$Statement;)Z" } : Jvm.MethodName)) ∈ lw_all := lw_g (lw_at lw_m18 114 rfl) rfl
theorem q4674 : (Jvm.Cond.instanceMethod ({ cls := "KnowHouse$ProofChecker$Apart", name := "give", desc := "(LKnowHouse$ProofChecker;I[LKnowHouse$ProofChecker$Statement;LKnowHouse$ProofChecker$Statement;)Z" } : Jvm.MethodName)) ∈ lw_all := lw_g (lw_at lw_m18 116 rfl) rfl
theorem q4676 : (Jvm.Cond.code ({ cls := "KnowHouse$ProofChecker$Apart", name := "give", desc := "(LKnowHouse$ProofChecker;I[LKnowHouse$ProofChecker$Statement;LKnowHouse$ProofChecker$Statement;)Z" } : Jvm.MethodName) prog_26_method_2_code (5 : Nat) (Option.some Jvm.ClassFile.FieldType.boolean)) ∈ lw_all := lw_g (lw_at lw_m18 118 rfl) rfl
theorem q4677 : (Jvm.Cond.methodLink "KnowHouse$ProofChecker$Apart" (11 : Nat) ({ cls := "KnowHouse$ProofChecker$Statement", name := "set", desc := "(IIII)V" } : Jvm.MethodName)) ∈ lw_all := lw_g (lw_at lw_m18 119 rfl) rfl
theorem q4678 : (Jvm.Cond.methodLinkNest "KnowHouse$ProofChecker$Apart" (21 : Nat) ({ cls := "KnowHouse$ProofChecker", name := "isOf", desc := "(LKnowHouse$ProofChecker$Statement;I)Z" } : Jvm.MethodName) "KnowHouse") ∈ lw_tbl := lw_at lw_m18 120 rfl
theorem q4679 : (Jvm.Cond.static ({ cls := "KnowHouse$ProofChecker", name := "isOf", desc := "(LKnowHouse$ProofChecker$Statement;I)Z" } : Jvm.MethodName)) ∈ lw_all := lw_g (lw_at lw_m18 121 rfl) rfl
theorem q4680 : (Jvm.Cond.code ({ cls := "KnowHouse$ProofChecker", name := "isOf", desc := "(LKnowHouse$ProofChecker$Statement;I)Z" } : Jvm.MethodName) prog_25_method_1_code (2 : Nat) (Option.some Jvm.ClassFile.FieldType.boolean)) ∈ lw_all := lw_g (lw_at lw_m18 122 rfl) rfl
theorem q4681 : (Jvm.Cond.selects "KnowHouse$ProofChecker$Axiom" ({ cls := "KnowHouse$ProofChecker$Rule", name := "give", desc := "(LKnowHouse$ProofChecker;I[LKnowHouse$ProofChecker$Statement;LKnowHouse$ProofChecker$Statement;)Z" } : Jvm.MethodName) ({ cls := "KnowHouse$ProofChecker$Axiom", name := "give", desc := "(LKnowHouse$ProofChecker;I[LKnowHouse$ProofChecker$Statement;LKnowHouse$ProofChecker$Statement;)Z" } : Jvm.MethodName)) ∈ lw_all := lw_g (lw_at lw_m18 123 rfl) rfl
theorem q4683 : (Jvm.Cond.instanceMethod ({ cls := "KnowHouse$ProofChecker$Axiom", name := "give", desc := "(LKnowHouse$ProofChecker;I[LKnowHouse$ProofChecker$Statement;LKnowHouse$ProofChecker$Statement;)Z" } : Jvm.MethodName)) ∈ lw_all := lw_g (lw_at lw_m18 125 rfl) rfl
theorem q4685 : (Jvm.Cond.code ({ cls := "KnowHouse$ProofChecker$Axiom", name := "give", desc := "(LKnowHouse$ProofChecker;I[LKnowHouse$ProofChecker$Statement;LKnowHouse$ProofChecker$Statement;)Z" } : Jvm.MethodName) prog_27_method_2_code (5 : Nat) (Option.some Jvm.ClassFile.FieldType.boolean)) ∈ lw_all := lw_g (lw_at lw_m18 127 rfl) rfl
theorem q4686 : (Jvm.Cond.methodLink "KnowHouse$ProofChecker$Axiom" (15 : Nat) ({ cls := "KnowHouse$ProofChecker$Statement", name := "copy", desc := "(LKnowHouse$ProofChecker$Statement;)V" } : Jvm.MethodName)) ∈ lw_all := lw_g (lw_at lw_m18 128 rfl) rfl
theorem q4687 : (Jvm.Cond.selects "KnowHouse$ProofChecker$Chain" ({ cls := "KnowHouse$ProofChecker$Rule", name := "give", desc := "(LKnowHouse$ProofChecker;I[LKnowHouse$ProofChecker$Statement;LKnowHouse$ProofChecker$Statement;)Z" } : Jvm.MethodName) ({ cls := "KnowHouse$ProofChecker$Chain", name := "give", desc := "(LKnowHouse$ProofChecker;I[LKnowHouse$ProofChecker$Statement;LKnowHouse$ProofChecker$Statement;)Z" } : Jvm.MethodName)) ∈ lw_all := lw_g (lw_at lw_m18 129 rfl) rfl
theorem q4689 : (Jvm.Cond.instanceMethod ({ cls := "KnowHouse$ProofChecker$Chain", name := "give", desc := "(LKnowHouse$ProofChecker;I[LKnowHouse$ProofChecker$Statement;LKnowHouse$ProofChecker$Statement;)Z" } : Jvm.MethodName)) ∈ lw_all := lw_g (lw_at lw_m18 131 rfl) rfl
theorem q4691 : (Jvm.Cond.code ({ cls := "KnowHouse$ProofChecker$Chain", name := "give", desc := "(LKnowHouse$ProofChecker;I[LKnowHouse$ProofChecker$Statement;LKnowHouse$ProofChecker$Statement;)Z" } : Jvm.MethodName) prog_28_method_2_code (5 : Nat) (Option.some Jvm.ClassFile.FieldType.boolean)) ∈ lw_all := lw_g (lw_at lw_m18 133 rfl) rfl
theorem q4692 : (Jvm.Cond.methodLink "KnowHouse$ProofChecker$Chain" (21 : Nat) ({ cls := "KnowHouse$ProofChecker$Statement", name := "set", desc := "(IIII)V" } : Jvm.MethodName)) ∈ lw_all := lw_g (lw_at lw_m18 134 rfl) rfl
theorem q4693 : (Jvm.Cond.selects "KnowHouse$ProofChecker$ClassRule" ({ cls := "KnowHouse$ProofChecker$Rule", name := "give", desc := "(LKnowHouse$ProofChecker;I[LKnowHouse$ProofChecker$Statement;LKnowHouse$ProofChecker$Statement;)Z" } : Jvm.MethodName) ({ cls := "KnowHouse$ProofChecker$ClassRule", name := "give", desc := "(LKnowHouse$ProofChecker;I[LKnowHouse$ProofChecker$Statement;LKnowHouse$ProofChecker$Statement;)Z" } : Jvm.MethodName)) ∈ lw_all := lw_g (lw_at lw_m18 135 rfl) rfl
theorem q4695 : (Jvm.Cond.instanceMethod ({ cls := "KnowHouse$ProofChecker$ClassRule", name := "give", desc := "(LKnowHouse$ProofChecker;I[LKnowHouse$ProofChecker$Statement;LKnowHouse$ProofChecker$Statement;)Z" } : Jvm.MethodName)) ∈ lw_all := lw_g (lw_at lw_m18 137 rfl) rfl
theorem q4697 : (Jvm.Cond.code ({ cls := "KnowHouse$ProofChecker$ClassRule", name := "give", desc := "(LKnowHouse$ProofChecker;I[LKnowHouse$ProofChecker$Statement;LKnowHouse$ProofChecker$Statement;)Z" } : Jvm.MethodName) prog_29_method_2_code (5 : Nat) (Option.some Jvm.ClassFile.FieldType.boolean)) ∈ lw_all := lw_g (lw_at lw_m18 139 rfl) rfl
theorem q4698 : (Jvm.Cond.methodLink "KnowHouse$ProofChecker$ClassRule" (20 : Nat) ({ cls := "KnowHouse$ProofChecker$Statement", name := "set", desc := "(IIII)V" } : Jvm.MethodName)) ∈ lw_all := lw_g (lw_at lw_m18 140 rfl) rfl
theorem q4699 : (Jvm.Cond.methodLinkNest "KnowHouse$ProofChecker$ClassRule" (27 : Nat) ({ cls := "KnowHouse$ProofChecker", name := "isOf", desc := "(LKnowHouse$ProofChecker$Statement;I)Z" } : Jvm.MethodName) "KnowHouse") ∈ lw_tbl := lw_at lw_m18 141 rfl
theorem q4700 : (Jvm.Cond.selects "KnowHouse$ProofChecker$End" ({ cls := "KnowHouse$ProofChecker$Rule", name := "give", desc := "(LKnowHouse$ProofChecker;I[LKnowHouse$ProofChecker$Statement;LKnowHouse$ProofChecker$Statement;)Z" } : Jvm.MethodName) ({ cls := "KnowHouse$ProofChecker$OfProperty", name := "give", desc := "(LKnowHouse$ProofChecker;I[LKnowHouse$ProofChecker$Statement;LKnowHouse$ProofChecker$Statement;)Z" } : Jvm.MethodName)) ∈ lw_all := lw_g (lw_at lw_m18 142 rfl) rfl
theorem q4702 : (Jvm.Cond.instanceMethod ({ cls := "KnowHouse$ProofChecker$OfProperty", name := "give", desc := "(LKnowHouse$ProofChecker;I[LKnowHouse$ProofChecker$Statement;LKnowHouse$ProofChecker$Statement;)Z" } : Jvm.MethodName)) ∈ lw_all := lw_g (lw_at lw_m18 144 rfl) rfl
theorem q4704 : (Jvm.Cond.code ({ cls := "KnowHouse$ProofChecker$OfProperty", name := "give", desc := "(LKnowHouse$ProofChecker;I[LKnowHouse$ProofChecker$Statement;LKnowHouse$ProofChecker$Statement;)Z" } : Jvm.MethodName) prog_35_method_3_code (5 : Nat) (Option.some Jvm.ClassFile.FieldType.boolean)) ∈ lw_all := lw_g (lw_at lw_m18 146 rfl) rfl
theorem q4705 : (Jvm.Cond.methodLinkNest "KnowHouse$ProofChecker$OfProperty" (19 : Nat) ({ cls := "KnowHouse$ProofChecker", name := "isOf", desc := "(LKnowHouse$ProofChecker$Statement;I)Z" } : Jvm.MethodName) "KnowHouse") ∈ lw_tbl := lw_at lw_m18 147 rfl
theorem q4706 : (Jvm.Cond.methodLink "KnowHouse$ProofChecker$OfProperty" (25 : Nat) ({ cls := "KnowHouse$ProofChecker$OfProperty", name := "more", desc := "(LKnowHouse$ProofChecker$Statement;[LKnowHouse$ProofChecker$Statement;LKnowHouse$ProofChecker$Statement;)Z" } : Jvm.MethodName)) ∈ lw_all := lw_g (lw_at lw_m18 148 rfl) rfl
theorem q4707 : (Jvm.Cond.declares ({ cls := "KnowHouse$ProofChecker$OfProperty", name := "more", desc := "(LKnowHouse$ProofChecker$Statement;[LKnowHouse$ProofChecker$Statement;LKnowHouse$ProofChecker$Statement;)Z" } : Jvm.MethodName)) ∈ lw_tbl := lw_at lw_m18 149 rfl
theorem q4708 : (Jvm.Cond.sameMethod "KnowHouse$ProofChecker$OfProperty" "KnowHouse$ProofChecker$OfProperty" "more" "(LKnowHouse$ProofChecker$Statement;[LKnowHouse$ProofChecker$Statement;LKnowHouse$ProofChecker$Statement;)Z") ∈ lw_all := lw_g (lw_at lw_m18 150 rfl) rfl
theorem q4709 : (Jvm.Cond.selects "KnowHouse$ProofChecker$End" ({ cls := "KnowHouse$ProofChecker$OfProperty", name := "more", desc := "(LKnowHouse$ProofChecker$Statement;[LKnowHouse$ProofChecker$Statement;LKnowHouse$ProofChecker$Statement;)Z" } : Jvm.MethodName) ({ cls := "KnowHouse$ProofChecker$End", name := "more", desc := "(LKnowHouse$ProofChecker$Statement;[LKnowHouse$ProofChecker$Statement;LKnowHouse$ProofChecker$Statement;)Z" } : Jvm.MethodName)) ∈ lw_all := lw_g (lw_at lw_m18 151 rfl) rfl
theorem q4710 : (Jvm.Cond.instanceMethod ({ cls := "KnowHouse$ProofChecker$End", name := "more", desc := "(LKnowHouse$ProofChecker$Statement;[LKnowHouse$ProofChecker$Statement;LKnowHouse$ProofChecker$Statement;)Z" } : Jvm.MethodName)) ∈ lw_all := lw_g (lw_at lw_m18 152 rfl) rfl
theorem q4711 : (Jvm.Cond.code ({ cls := "KnowHouse$ProofChecker$End", name := "more", desc := "(LKnowHouse$ProofChecker$Statement;[LKnowHouse$ProofChecker$Statement;LKnowHouse$ProofChecker$Statement;)Z" } : Jvm.MethodName) prog_30_method_2_code (4 : Nat) (Option.some Jvm.ClassFile.FieldType.boolean)) ∈ lw_all := lw_g (lw_at lw_m18 153 rfl) rfl
theorem q4712 : (Jvm.Cond.methodLink "KnowHouse$ProofChecker$End" (31 : Nat) ({ cls := "KnowHouse$ProofChecker$Statement", name := "set", desc := "(IIII)V" } : Jvm.MethodName)) ∈ lw_all := lw_g (lw_at lw_m18 154 rfl) rfl
theorem q4713 : (Jvm.Cond.selects "KnowHouse$ProofChecker$One" ({ cls := "KnowHouse$ProofChecker$OfProperty", name := "more", desc := "(LKnowHouse$ProofChecker$Statement;[LKnowHouse$ProofChecker$Statement;LKnowHouse$ProofChecker$Statement;)Z" } : Jvm.MethodName) ({ cls := "KnowHouse$ProofChecker$One", name := "more", desc := "(LKnowHouse$ProofChecker$Statement;[LKnowHouse$ProofChecker$Statement;LKnowHouse$ProofChecker$Statement;)Z" } : Jvm.MethodName)) ∈ lw_all := lw_g (lw_at lw_m18 155 rfl) rfl
theorem q4714 : (Jvm.Cond.instanceMethod ({ cls := "KnowHouse$ProofChecker$One", name := "more", desc := "(LKnowHouse$ProofChecker$Statement;[LKnowHouse$ProofChecker$Statement;LKnowHouse$ProofChecker$Statement;)Z" } : Jvm.MethodName)) ∈ lw_all := lw_g (lw_at lw_m18 156 rfl) rfl
theorem q4715 : (Jvm.Cond.code ({ cls := "KnowHouse$ProofChecker$One", name := "more", desc := "(LKnowHouse$ProofChecker$Statement;[LKnowHouse$ProofChecker$Statement;LKnowHouse$ProofChecker$Statement;)Z" } : Jvm.MethodName) prog_36_method_2_code (4 : Nat) (Option.some Jvm.ClassFile.FieldType.boolean)) ∈ lw_all := lw_g (lw_at lw_m18 157 rfl) rfl
theorem q4716 : (Jvm.Cond.methodLink "KnowHouse$ProofChecker$One" (17 : Nat) ({ cls := "KnowHouse$ProofChecker$Statement", name := "set", desc := "(IIII)V" } : Jvm.MethodName)) ∈ lw_all := lw_g (lw_at lw_m18 158 rfl) rfl
theorem q4717 : (Jvm.Cond.methodLinkNest "KnowHouse$ProofChecker$One" (24 : Nat) ({ cls := "KnowHouse$ProofChecker", name := "isOf", desc := "(LKnowHouse$ProofChecker$Statement;I)Z" } : Jvm.MethodName) "KnowHouse") ∈ lw_tbl := lw_at lw_m18 159 rfl
theorem q4718 : (Jvm.Cond.selects "KnowHouse$ProofChecker$Property" ({ cls := "KnowHouse$ProofChecker$OfProperty", name := "more", desc := "(LKnowHouse$ProofChecker$Statement;[LKnowHouse$ProofChecker$Statement;LKnowHouse$ProofChecker$Statement;)Z" } : Jvm.MethodName) ({ cls := "KnowHouse$ProofChecker$Property", name := "more", desc := "(LKnowHouse$ProofChecker$Statement;[LKnowHouse$ProofChecker$Statement;LKnowHouse$ProofChecker$Statement;)Z" } : Jvm.MethodName)) ∈ lw_all := lw_g (lw_at lw_m18 160 rfl) rfl
theorem q4719 : (Jvm.Cond.instanceMethod ({ cls := "KnowHouse$ProofChecker$Property", name := "more", desc := "(LKnowHouse$ProofChecker$Statement;[LKnowHouse$ProofChecker$Statement;LKnowHouse$ProofChecker$Statement;)Z" } : Jvm.MethodName)) ∈ lw_all := lw_g (lw_at lw_m18 161 rfl) rfl
theorem q4720 : (Jvm.Cond.code ({ cls := "KnowHouse$ProofChecker$Property", name := "more", desc := "(LKnowHouse$ProofChecker$Statement;[LKnowHouse$ProofChecker$Statement;LKnowHouse$ProofChecker$Statement;)Z" } : Jvm.MethodName) prog_38_method_2_code (4 : Nat) (Option.some Jvm.ClassFile.FieldType.boolean)) ∈ lw_all := lw_g (lw_at lw_m18 162 rfl) rfl
theorem q4721 : (Jvm.Cond.methodLink "KnowHouse$ProofChecker$Property" (23 : Nat) ({ cls := "KnowHouse$ProofChecker$Statement", name := "set", desc := "(IIII)V" } : Jvm.MethodName)) ∈ lw_all := lw_g (lw_at lw_m18 163 rfl) rfl
theorem q4722 : (Jvm.Cond.selects "KnowHouse$ProofChecker$Through" ({ cls := "KnowHouse$ProofChecker$OfProperty", name := "more", desc := "(LKnowHouse$ProofChecker$Statement;[LKnowHouse$ProofChecker$Statement;LKnowHouse$ProofChecker$Statement;)Z" } : Jvm.MethodName) ({ cls := "KnowHouse$ProofChecker$Through", name := "more", desc := "(LKnowHouse$ProofChecker$Statement;[LKnowHouse$ProofChecker$Statement;LKnowHouse$ProofChecker$Statement;)Z" } : Jvm.MethodName)) ∈ lw_all := lw_g (lw_at lw_m18 164 rfl) rfl
theorem q4723 : (Jvm.Cond.instanceMethod ({ cls := "KnowHouse$ProofChecker$Through", name := "more", desc := "(LKnowHouse$ProofChecker$Statement;[LKnowHouse$ProofChecker$Statement;LKnowHouse$ProofChecker$Statement;)Z" } : Jvm.MethodName)) ∈ lw_all := lw_g (lw_at lw_m18 165 rfl) rfl
theorem q4724 : (Jvm.Cond.code ({ cls := "KnowHouse$ProofChecker$Through", name := "more", desc := "(LKnowHouse$ProofChecker$Statement;[LKnowHouse$ProofChecker$Statement;LKnowHouse$ProofChecker$Statement;)Z" } : Jvm.MethodName) prog_43_method_2_code (4 : Nat) (Option.some Jvm.ClassFile.FieldType.boolean)) ∈ lw_all := lw_g (lw_at lw_m18 166 rfl) rfl
theorem q4725 : (Jvm.Cond.methodLink "KnowHouse$ProofChecker$Through" (20 : Nat) ({ cls := "KnowHouse$ProofChecker$Statement", name := "set", desc := "(IIII)V" } : Jvm.MethodName)) ∈ lw_all := lw_g (lw_at lw_m18 167 rfl) rfl
theorem q4726 : (Jvm.Cond.methodLinkNest "KnowHouse$ProofChecker$Through" (24 : Nat) ({ cls := "KnowHouse$ProofChecker", name := "isOf", desc := "(LKnowHouse$ProofChecker$Statement;I)Z" } : Jvm.MethodName) "KnowHouse") ∈ lw_tbl := lw_at lw_m18 168 rfl
theorem q4727 : (Jvm.Cond.selects "KnowHouse$ProofChecker$Turn" ({ cls := "KnowHouse$ProofChecker$OfProperty", name := "more", desc := "(LKnowHouse$ProofChecker$Statement;[LKnowHouse$ProofChecker$Statement;LKnowHouse$ProofChecker$Statement;)Z" } : Jvm.MethodName) ({ cls := "KnowHouse$ProofChecker$Turn", name := "more", desc := "(LKnowHouse$ProofChecker$Statement;[LKnowHouse$ProofChecker$Statement;LKnowHouse$ProofChecker$Statement;)Z" } : Jvm.MethodName)) ∈ lw_all := lw_g (lw_at lw_m18 169 rfl) rfl
theorem q4728 : (Jvm.Cond.instanceMethod ({ cls := "KnowHouse$ProofChecker$Turn", name := "more", desc := "(LKnowHouse$ProofChecker$Statement;[LKnowHouse$ProofChecker$Statement;LKnowHouse$ProofChecker$Statement;)Z" } : Jvm.MethodName)) ∈ lw_all := lw_g (lw_at lw_m18 170 rfl) rfl
theorem q4729 : (Jvm.Cond.code ({ cls := "KnowHouse$ProofChecker$Turn", name := "more", desc := "(LKnowHouse$ProofChecker$Statement;[LKnowHouse$ProofChecker$Statement;LKnowHouse$ProofChecker$Statement;)Z" } : Jvm.MethodName) prog_44_method_2_code (4 : Nat) (Option.some Jvm.ClassFile.FieldType.boolean)) ∈ lw_all := lw_g (lw_at lw_m18 171 rfl) rfl
theorem q4730 : (Jvm.Cond.methodLink "KnowHouse$ProofChecker$Turn" (30 : Nat) ({ cls := "KnowHouse$ProofChecker$Statement", name := "set", desc := "(IIII)V" } : Jvm.MethodName)) ∈ lw_all := lw_g (lw_at lw_m18 172 rfl) rfl
theorem q4731 : (Jvm.Cond.selects "KnowHouse$ProofChecker$Equal" ({ cls := "KnowHouse$ProofChecker$Rule", name := "give", desc := "(LKnowHouse$ProofChecker;I[LKnowHouse$ProofChecker$Statement;LKnowHouse$ProofChecker$Statement;)Z" } : Jvm.MethodName) ({ cls := "KnowHouse$ProofChecker$Equal", name := "give", desc := "(LKnowHouse$ProofChecker;I[LKnowHouse$ProofChecker$Statement;LKnowHouse$ProofChecker$Statement;)Z" } : Jvm.MethodName)) ∈ lw_all := lw_g (lw_at lw_m18 173 rfl) rfl
theorem q4733 : (Jvm.Cond.instanceMethod ({ cls := "KnowHouse$ProofChecker$Equal", name := "give", desc := "(LKnowHouse$ProofChecker;I[LKnowHouse$ProofChecker$Statement;LKnowHouse$ProofChecker$Statement;)Z" } : Jvm.MethodName)) ∈ lw_all := lw_g (lw_at lw_m18 175 rfl) rfl
theorem q4735 : (Jvm.Cond.code ({ cls := "KnowHouse$ProofChecker$Equal", name := "give", desc := "(LKnowHouse$ProofChecker;I[LKnowHouse$ProofChecker$Statement;LKnowHouse$ProofChecker$Statement;)Z" } : Jvm.MethodName) prog_31_method_2_code (5 : Nat) (Option.some Jvm.ClassFile.FieldType.boolean)) ∈ lw_all := lw_g (lw_at lw_m18 177 rfl) rfl
theorem q4736 : (Jvm.Cond.methodLink "KnowHouse$ProofChecker$Equal" (20 : Nat) ({ cls := "KnowHouse$ProofChecker$Statement", name := "set", desc := "(IIII)V" } : Jvm.MethodName)) ∈ lw_all := lw_g (lw_at lw_m18 178 rfl) rfl
theorem q4737 : (Jvm.Cond.methodLinkNest "KnowHouse$ProofChecker$Equal" (24 : Nat) ({ cls := "KnowHouse$ProofChecker", name := "isOf", desc := "(LKnowHouse$ProofChecker$Statement;I)Z" } : Jvm.MethodName) "KnowHouse") ∈ lw_tbl := lw_at lw_m18 179 rfl
theorem q4738 : (Jvm.Cond.selects "KnowHouse$ProofChecker$Given" ({ cls := "KnowHouse$ProofChecker$Rule", name := "give", desc := "(LKnowHouse$ProofChecker;I[LKnowHouse$ProofChecker$Statement;LKnowHouse$ProofChecker$Statement;)Z" } : Jvm.MethodName) ({ cls := "KnowHouse$ProofChecker$Given", name := "give", desc := "(LKnowHouse$ProofChecker;I[LKnowHouse$ProofChecker$Statement;LKnowHouse$ProofChecker$Statement;)Z" } : Jvm.MethodName)) ∈ lw_all := lw_g (lw_at lw_m18 180 rfl) rfl
theorem q4740 : (Jvm.Cond.instanceMethod ({ cls := "KnowHouse$ProofChecker$Given", name := "give", desc := "(LKnowHouse$ProofChecker;I[LKnowHouse$ProofChecker$Statement;LKnowHouse$ProofChecker$Statement;)Z" } : Jvm.MethodName)) ∈ lw_all := lw_g (lw_at lw_m18 182 rfl) rfl
theorem q4742 : (Jvm.Cond.code ({ cls := "KnowHouse$ProofChecker$Given", name := "give", desc := "(LKnowHouse$ProofChecker;I[LKnowHouse$ProofChecker$Statement;LKnowHouse$ProofChecker$Statement;)Z" } : Jvm.MethodName) prog_32_method_2_code (5 : Nat) (Option.some Jvm.ClassFile.FieldType.boolean)) ∈ lw_all := lw_g (lw_at lw_m18 184 rfl) rfl
theorem q4743 : (Jvm.Cond.methodLink "KnowHouse$ProofChecker$Given" (23 : Nat) ({ cls := "KnowHouse$ProofChecker$Statement", name := "copy", desc := "(LKnowHouse$ProofChecker$Statement;)V" } : Jvm.MethodName)) ∈ lw_all := lw_g (lw_at lw_m18 185 rfl) rfl
theorem q4744 : (Jvm.Cond.selects "KnowHouse$ProofChecker$Itself" ({ cls := "KnowHouse$ProofChecker$Rule", name := "give", desc := "(LKnowHouse$ProofChecker;I[LKnowHouse$ProofChecker$Statement;LKnowHouse$ProofChecker$Statement;)Z" } : Jvm.MethodName) ({ cls := "KnowHouse$ProofChecker$Itself", name := "give", desc := "(LKnowHouse$ProofChecker;I[LKnowHouse$ProofChecker$Statement;LKnowHouse$ProofChecker$Statement;)Z" } : Jvm.MethodName)) ∈ lw_all := lw_g (lw_at lw_m18 186 rfl) rfl
theorem q4746 : (Jvm.Cond.instanceMethod ({ cls := "KnowHouse$ProofChecker$Itself", name := "give", desc := "(LKnowHouse$ProofChecker;I[LKnowHouse$ProofChecker$Statement;LKnowHouse$ProofChecker$Statement;)Z" } : Jvm.MethodName)) ∈ lw_all := lw_g (lw_at lw_m18 188 rfl) rfl
theorem q4748 : (Jvm.Cond.code ({ cls := "KnowHouse$ProofChecker$Itself", name := "give", desc := "(LKnowHouse$ProofChecker;I[LKnowHouse$ProofChecker$Statement;LKnowHouse$ProofChecker$Statement;)Z" } : Jvm.MethodName) prog_33_method_2_code (5 : Nat) (Option.some Jvm.ClassFile.FieldType.boolean)) ∈ lw_all := lw_g (lw_at lw_m18 190 rfl) rfl
theorem q4749 : (Jvm.Cond.methodLink "KnowHouse$ProofChecker$Itself" (11 : Nat) ({ cls := "KnowHouse$ProofChecker$Statement", name := "set", desc := "(IIII)V" } : Jvm.MethodName)) ∈ lw_all := lw_g (lw_at lw_m18 191 rfl) rfl
theorem q4750 : (Jvm.Cond.selects "KnowHouse$ProofChecker$Not" ({ cls := "KnowHouse$ProofChecker$Rule", name := "give", desc := "(LKnowHouse$ProofChecker;I[LKnowHouse$ProofChecker$Statement;LKnowHouse$ProofChecker$Statement;)Z" } : Jvm.MethodName) ({ cls := "KnowHouse$ProofChecker$Not", name := "give", desc := "(LKnowHouse$ProofChecker;I[LKnowHouse$ProofChecker$Statement;LKnowHouse$ProofChecker$Statement;)Z" } : Jvm.MethodName)) ∈ lw_all := lw_g (lw_at lw_m18 192 rfl) rfl
theorem q4752 : (Jvm.Cond.instanceMethod ({ cls := "KnowHouse$ProofChecker$Not", name := "give", desc := "(LKnowHouse$ProofChecker;I[LKnowHouse$ProofChecker$Statement;LKnowHouse$ProofChecker$Statement;)Z" } : Jvm.MethodName)) ∈ lw_all := lw_g (lw_at lw_m18 194 rfl) rfl
theorem q4754 : (Jvm.Cond.code ({ cls := "KnowHouse$ProofChecker$Not", name := "give", desc := "(LKnowHouse$ProofChecker;I[LKnowHouse$ProofChecker$Statement;LKnowHouse$ProofChecker$Statement;)Z" } : Jvm.MethodName) prog_34_method_2_code (5 : Nat) (Option.some Jvm.ClassFile.FieldType.boolean)) ∈ lw_all := lw_g (lw_at lw_m18 196 rfl) rfl
theorem q4755 : (Jvm.Cond.methodLink "KnowHouse$ProofChecker$Not" (11 : Nat) ({ cls := "KnowHouse$ProofChecker$Statement", name := "set", desc := "(IIII)V" } : Jvm.MethodName)) ∈ lw_all := lw_g (lw_at lw_m18 197 rfl) rfl
theorem q4756 : (Jvm.Cond.methodLinkNest "KnowHouse$ProofChecker$Not" (21 : Nat) ({ cls := "KnowHouse$ProofChecker", name := "isOf", desc := "(LKnowHouse$ProofChecker$Statement;I)Z" } : Jvm.MethodName) "KnowHouse") ∈ lw_tbl := lw_at lw_m18 198 rfl
theorem q4757 : (Jvm.Cond.selects "KnowHouse$ProofChecker$One" ({ cls := "KnowHouse$ProofChecker$Rule", name := "give", desc := "(LKnowHouse$ProofChecker;I[LKnowHouse$ProofChecker$Statement;LKnowHouse$ProofChecker$Statement;)Z" } : Jvm.MethodName) ({ cls := "KnowHouse$ProofChecker$OfProperty", name := "give", desc := "(LKnowHouse$ProofChecker;I[LKnowHouse$ProofChecker$Statement;LKnowHouse$ProofChecker$Statement;)Z" } : Jvm.MethodName)) ∈ lw_all := lw_g (lw_at lw_m18 199 rfl) rfl
theorem q4759 : (Jvm.Cond.selects "KnowHouse$ProofChecker$Property" ({ cls := "KnowHouse$ProofChecker$Rule", name := "give", desc := "(LKnowHouse$ProofChecker;I[LKnowHouse$ProofChecker$Statement;LKnowHouse$ProofChecker$Statement;)Z" } : Jvm.MethodName) ({ cls := "KnowHouse$ProofChecker$OfProperty", name := "give", desc := "(LKnowHouse$ProofChecker;I[LKnowHouse$ProofChecker$Statement;LKnowHouse$ProofChecker$Statement;)Z" } : Jvm.MethodName)) ∈ lw_all := lw_g (lw_at lw_m18 201 rfl) rfl
theorem q4761 : (Jvm.Cond.selects "KnowHouse$ProofChecker$Swap" ({ cls := "KnowHouse$ProofChecker$Rule", name := "give", desc := "(LKnowHouse$ProofChecker;I[LKnowHouse$ProofChecker$Statement;LKnowHouse$ProofChecker$Statement;)Z" } : Jvm.MethodName) ({ cls := "KnowHouse$ProofChecker$Swap", name := "give", desc := "(LKnowHouse$ProofChecker;I[LKnowHouse$ProofChecker$Statement;LKnowHouse$ProofChecker$Statement;)Z" } : Jvm.MethodName)) ∈ lw_all := lw_g (lw_at lw_m18 203 rfl) rfl
theorem q4763 : (Jvm.Cond.instanceMethod ({ cls := "KnowHouse$ProofChecker$Swap", name := "give", desc := "(LKnowHouse$ProofChecker;I[LKnowHouse$ProofChecker$Statement;LKnowHouse$ProofChecker$Statement;)Z" } : Jvm.MethodName)) ∈ lw_all := lw_g (lw_at lw_m18 205 rfl) rfl
theorem q4765 : (Jvm.Cond.code ({ cls := "KnowHouse$ProofChecker$Swap", name := "give", desc := "(LKnowHouse$ProofChecker;I[LKnowHouse$ProofChecker$Statement;LKnowHouse$ProofChecker$Statement;)Z" } : Jvm.MethodName) prog_42_method_2_code (5 : Nat) (Option.some Jvm.ClassFile.FieldType.boolean)) ∈ lw_all := lw_g (lw_at lw_m18 207 rfl) rfl
theorem q4766 : (Jvm.Cond.methodLink "KnowHouse$ProofChecker$Swap" (20 : Nat) ({ cls := "KnowHouse$ProofChecker$Statement", name := "set", desc := "(IIII)V" } : Jvm.MethodName)) ∈ lw_all := lw_g (lw_at lw_m18 208 rfl) rfl
theorem q4767 : (Jvm.Cond.methodLinkNest "KnowHouse$ProofChecker$Swap" (24 : Nat) ({ cls := "KnowHouse$ProofChecker", name := "isOf", desc := "(LKnowHouse$ProofChecker$Statement;I)Z" } : Jvm.MethodName) "KnowHouse") ∈ lw_tbl := lw_at lw_m18 209 rfl
theorem q4768 : (Jvm.Cond.selects "KnowHouse$ProofChecker$Through" ({ cls := "KnowHouse$ProofChecker$Rule", name := "give", desc := "(LKnowHouse$ProofChecker;I[LKnowHouse$ProofChecker$Statement;LKnowHouse$ProofChecker$Statement;)Z" } : Jvm.MethodName) ({ cls := "KnowHouse$ProofChecker$OfProperty", name := "give", desc := "(LKnowHouse$ProofChecker;I[LKnowHouse$ProofChecker$Statement;LKnowHouse$ProofChecker$Statement;)Z" } : Jvm.MethodName)) ∈ lw_all := lw_g (lw_at lw_m18 210 rfl) rfl
theorem q4770 : (Jvm.Cond.selects "KnowHouse$ProofChecker$Turn" ({ cls := "KnowHouse$ProofChecker$Rule", name := "give", desc := "(LKnowHouse$ProofChecker;I[LKnowHouse$ProofChecker$Statement;LKnowHouse$ProofChecker$Statement;)Z" } : Jvm.MethodName) ({ cls := "KnowHouse$ProofChecker$OfProperty", name := "give", desc := "(LKnowHouse$ProofChecker;I[LKnowHouse$ProofChecker$Statement;LKnowHouse$ProofChecker$Statement;)Z" } : Jvm.MethodName)) ∈ lw_all := lw_g (lw_at lw_m18 212 rfl) rfl
theorem q4772 : (Jvm.Cond.methodLink "KnowHouse$ProofChecker" (193 : Nat) ({ cls := "KnowHouse$ProofChecker", name := "need", desc := "(I)I" } : Jvm.MethodName)) ∈ lw_all := lw_g (lw_at lw_m18 214 rfl) rfl
theorem q4774 : (Jvm.Cond.instanceMethod ({ cls := "KnowHouse$ProofChecker", name := "need", desc := "(I)I" } : Jvm.MethodName)) ∈ lw_all := lw_g (lw_at lw_m18 216 rfl) rfl
theorem q4775 : (Jvm.Cond.code ({ cls := "KnowHouse$ProofChecker", name := "need", desc := "(I)I" } : Jvm.MethodName) prog_25_method_12_code (6 : Nat) (Option.some Jvm.ClassFile.FieldType.int)) ∈ lw_all := lw_g (lw_at lw_m18 217 rfl) rfl
theorem q4776 : (Jvm.Cond.methodLink "KnowHouse$ProofChecker" (200 : Nat) ({ cls := "KnowHouse$ProofChecker", name := "arePremisesRight", desc := "(LKnowHouse$ProofChecker$Row;)Z" } : Jvm.MethodName)) ∈ lw_all := lw_g (lw_at lw_m18 218 rfl) rfl
theorem q4778 : (Jvm.Cond.instanceMethod ({ cls := "KnowHouse$ProofChecker", name := "arePremisesRight", desc := "(LKnowHouse$ProofChecker$Row;)Z" } : Jvm.MethodName)) ∈ lw_all := lw_g (lw_at lw_m18 220 rfl) rfl
theorem q4779 : (Jvm.Cond.code ({ cls := "KnowHouse$ProofChecker", name := "arePremisesRight", desc := "(LKnowHouse$ProofChecker$Row;)Z" } : Jvm.MethodName) prog_25_method_13_code (4 : Nat) (Option.some Jvm.ClassFile.FieldType.boolean)) ∈ lw_all := lw_g (lw_at lw_m18 221 rfl) rfl
theorem q4796 : (Jvm.Cond.methodLink "KnowHouse$ProofChecker" (204 : Nat) ({ cls := "KnowHouse$ProofChecker$Row", name := "take", desc := "(LKnowHouse$ProofChecker$Row;)V" } : Jvm.MethodName)) ∈ lw_all := lw_g (lw_at lw_m18 238 rfl) rfl
theorem q4797 : (Jvm.Cond.instanceMethod ({ cls := "KnowHouse$ProofChecker$Row", name := "take", desc := "(LKnowHouse$ProofChecker$Row;)V" } : Jvm.MethodName)) ∈ lw_all := lw_g (lw_at lw_m18 239 rfl) rfl
theorem q4798 : (Jvm.Cond.selects "KnowHouse$ProofChecker$Row" ({ cls := "KnowHouse$ProofChecker$Row", name := "take", desc := "(LKnowHouse$ProofChecker$Row;)V" } : Jvm.MethodName) ({ cls := "KnowHouse$ProofChecker$Row", name := "take", desc := "(LKnowHouse$ProofChecker$Row;)V" } : Jvm.MethodName)) ∈ lw_all := lw_g (lw_at lw_m19 0 rfl) rfl
theorem q4799 : (Jvm.Cond.code ({ cls := "KnowHouse$ProofChecker$Row", name := "take", desc := "(LKnowHouse$ProofChecker$Row;)V" } : Jvm.MethodName) prog_39_method_3_code (3 : Nat) (Option.none : Option Jvm.ClassFile.FieldType)) ∈ lw_all := lw_g (lw_at lw_m19 1 rfl) rfl
theorem q4800 : (Jvm.Cond.methodLink "KnowHouse$ProofChecker$Row" (30 : Nat) ({ cls := "KnowHouse$ProofChecker$Row", name := "set", desc := "(II)V" } : Jvm.MethodName)) ∈ lw_all := lw_g (lw_at lw_m19 2 rfl) rfl
theorem q4813 : (Jvm.Cond.methodLink "KnowHouse$ProofChecker" (224 : Nat) ({ cls := "KnowHouse$ProofChecker", name := "sayNumber", desc := "(I)V" } : Jvm.MethodName)) ∈ lw_all := lw_g (lw_at lw_m19 15 rfl) rfl
theorem q4815 : (Jvm.Cond.instanceMethod ({ cls := "KnowHouse$ProofChecker", name := "sayNumber", desc := "(I)V" } : Jvm.MethodName)) ∈ lw_all := lw_g (lw_at lw_m19 17 rfl) rfl
theorem q4816 : (Jvm.Cond.code ({ cls := "KnowHouse$ProofChecker", name := "sayNumber", desc := "(I)V" } : Jvm.MethodName) prog_25_method_23_code (4 : Nat) (Option.none : Option Jvm.ClassFile.FieldType)) ∈ lw_all := lw_g (lw_at lw_m19 18 rfl) rfl
theorem q4818 : (Jvm.Cond.methodLink "KnowHouse$ProofChecker" (267 : Nat) ({ cls := "KnowHouse$ProofChecker", name := "say", desc := "(Ljava/lang/String;)V" } : Jvm.MethodName)) ∈ lw_all := lw_g (lw_at lw_m19 20 rfl) rfl
theorem q4820 : (Jvm.Cond.instanceMethod ({ cls := "KnowHouse$ProofChecker", name := "say", desc := "(Ljava/lang/String;)V" } : Jvm.MethodName)) ∈ lw_all := lw_g (lw_at lw_m19 22 rfl) rfl
theorem q4821 : (Jvm.Cond.code ({ cls := "KnowHouse$ProofChecker", name := "say", desc := "(Ljava/lang/String;)V" } : Jvm.MethodName) prog_25_method_22_code (3 : Nat) (Option.none : Option Jvm.ClassFile.FieldType)) ∈ lw_all := lw_g (lw_at lw_m19 23 rfl) rfl
theorem q4822 : (Jvm.Cond.methodLink "KnowHouse$ProofChecker" (214 : Nat) ({ cls := "java/lang/String", name := "length", desc := "()I" } : Jvm.MethodName)) ∈ lw_all := lw_g (lw_at lw_m19 24 rfl) rfl
theorem q4823 : (Jvm.Cond.methodLink "KnowHouse$ProofChecker" (220 : Nat) ({ cls := "java/lang/String", name := "charAt", desc := "(I)C" } : Jvm.MethodName)) ∈ lw_all := lw_g (lw_at lw_m19 25 rfl) rfl
theorem q4824 : (Jvm.Cond.methodLink "KnowHouse$ProofChecker" (271 : Nat) ({ cls := "KnowHouse$ProofChecker", name := "sayStatement", desc := "(LKnowHouse$ProofChecker$Statement;)V" } : Jvm.MethodName)) ∈ lw_all := lw_g (lw_at lw_m19 26 rfl) rfl
theorem q4826 : (Jvm.Cond.instanceMethod ({ cls := "KnowHouse$ProofChecker", name := "sayStatement", desc := "(LKnowHouse$ProofChecker$Statement;)V" } : Jvm.MethodName)) ∈ lw_all := lw_g (lw_at lw_m19 28 rfl) rfl
theorem q4827 : (Jvm.Cond.code ({ cls := "KnowHouse$ProofChecker", name := "sayStatement", desc := "(LKnowHouse$ProofChecker$Statement;)V" } : Jvm.MethodName) prog_25_method_26_code (2 : Nat) (Option.none : Option Jvm.ClassFile.FieldType)) ∈ lw_all := lw_g (lw_at lw_m19 29 rfl) rfl
theorem q4828 : (Jvm.Cond.methodLink "KnowHouse$ProofChecker" (251 : Nat) ({ cls := "KnowHouse$ProofChecker", name := "pattern", desc := "(I)Ljava/lang/String;" } : Jvm.MethodName)) ∈ lw_all := lw_g (lw_at lw_m19 30 rfl) rfl
theorem q4829 : (Jvm.Cond.static ({ cls := "KnowHouse$ProofChecker", name := "pattern", desc := "(I)Ljava/lang/String;" } : Jvm.MethodName)) ∈ lw_all := lw_g (lw_at lw_m19 31 rfl) rfl
theorem q4830 : (Jvm.Cond.code ({ cls := "KnowHouse$ProofChecker", name := "pattern", desc := "(I)Ljava/lang/String;" } : Jvm.MethodName) prog_25_method_25_code (1 : Nat) (Option.some (Jvm.ClassFile.FieldType.object "java/lang/String"))) ∈ lw_all := lw_g (lw_at lw_m19 32 rfl) rfl
theorem q4843 : (Jvm.Cond.methodLink "KnowHouse$ProofChecker" (255 : Nat) ({ cls := "KnowHouse$ProofChecker", name := "sayWith", desc := "(Ljava/lang/String;II)V" } : Jvm.MethodName)) ∈ lw_all := lw_g (lw_at lw_m19 45 rfl) rfl
theorem q4845 : (Jvm.Cond.instanceMethod ({ cls := "KnowHouse$ProofChecker", name := "sayWith", desc := "(Ljava/lang/String;II)V" } : Jvm.MethodName)) ∈ lw_all := lw_g (lw_at lw_m19 47 rfl) rfl
theorem q4846 : (Jvm.Cond.code ({ cls := "KnowHouse$ProofChecker", name := "sayWith", desc := "(Ljava/lang/String;II)V" } : Jvm.MethodName) prog_25_method_24_code (6 : Nat) (Option.none : Option Jvm.ClassFile.FieldType)) ∈ lw_all := lw_g (lw_at lw_m19 48 rfl) rfl
theorem q4852 : (Jvm.Cond.methodLink "KnowHouse$ProofChecker" (276 : Nat) ({ cls := "KnowHouse$ProofChecker$Rule", name := "word", desc := "()Ljava/lang/String;" } : Jvm.MethodName)) ∈ lw_all := lw_g (lw_at lw_m19 54 rfl) rfl
theorem q4855 : (Jvm.Cond.selects "KnowHouse$ProofChecker$Apart" ({ cls := "KnowHouse$ProofChecker$Rule", name := "word", desc := "()Ljava/lang/String;" } : Jvm.MethodName) ({ cls := "KnowHouse$ProofChecker$Plain", name := "word", desc := "()Ljava/lang/String;" } : Jvm.MethodName)) ∈ lw_all := lw_g (lw_at lw_m19 57 rfl) rfl
theorem q4857 : (Jvm.Cond.instanceMethod ({ cls := "KnowHouse$ProofChecker$Plain", name := "word", desc := "()Ljava/lang/String;" } : Jvm.MethodName)) ∈ lw_all := lw_g (lw_at lw_m19 59 rfl) rfl
theorem q4859 : (Jvm.Cond.code ({ cls := "KnowHouse$ProofChecker$Plain", name := "word", desc := "()Ljava/lang/String;" } : Jvm.MethodName) prog_37_method_3_code (1 : Nat) (Option.some (Jvm.ClassFile.FieldType.object "java/lang/String"))) ∈ lw_all := lw_g (lw_at lw_m19 61 rfl) rfl
theorem q4860 : (Jvm.Cond.selects "KnowHouse$ProofChecker$Axiom" ({ cls := "KnowHouse$ProofChecker$Rule", name := "word", desc := "()Ljava/lang/String;" } : Jvm.MethodName) ({ cls := "KnowHouse$ProofChecker$Plain", name := "word", desc := "()Ljava/lang/String;" } : Jvm.MethodName)) ∈ lw_all := lw_g (lw_at lw_m19 62 rfl) rfl
theorem q4862 : (Jvm.Cond.selects "KnowHouse$ProofChecker$Chain" ({ cls := "KnowHouse$ProofChecker$Rule", name := "word", desc := "()Ljava/lang/String;" } : Jvm.MethodName) ({ cls := "KnowHouse$ProofChecker$Plain", name := "word", desc := "()Ljava/lang/String;" } : Jvm.MethodName)) ∈ lw_all := lw_g (lw_at lw_m19 64 rfl) rfl
theorem q4864 : (Jvm.Cond.selects "KnowHouse$ProofChecker$ClassRule" ({ cls := "KnowHouse$ProofChecker$Rule", name := "word", desc := "()Ljava/lang/String;" } : Jvm.MethodName) ({ cls := "KnowHouse$ProofChecker$Plain", name := "word", desc := "()Ljava/lang/String;" } : Jvm.MethodName)) ∈ lw_all := lw_g (lw_at lw_m19 66 rfl) rfl
theorem q4866 : (Jvm.Cond.selects "KnowHouse$ProofChecker$End" ({ cls := "KnowHouse$ProofChecker$Rule", name := "word", desc := "()Ljava/lang/String;" } : Jvm.MethodName) ({ cls := "KnowHouse$ProofChecker$Plain", name := "word", desc := "()Ljava/lang/String;" } : Jvm.MethodName)) ∈ lw_all := lw_g (lw_at lw_m19 68 rfl) rfl
theorem q4868 : (Jvm.Cond.selects "KnowHouse$ProofChecker$Equal" ({ cls := "KnowHouse$ProofChecker$Rule", name := "word", desc := "()Ljava/lang/String;" } : Jvm.MethodName) ({ cls := "KnowHouse$ProofChecker$Plain", name := "word", desc := "()Ljava/lang/String;" } : Jvm.MethodName)) ∈ lw_all := lw_g (lw_at lw_m19 70 rfl) rfl
theorem q4870 : (Jvm.Cond.selects "KnowHouse$ProofChecker$Given" ({ cls := "KnowHouse$ProofChecker$Rule", name := "word", desc := "()Ljava/lang/String;" } : Jvm.MethodName) ({ cls := "KnowHouse$ProofChecker$Plain", name := "word", desc := "()Ljava/lang/String;" } : Jvm.MethodName)) ∈ lw_all := lw_g (lw_at lw_m19 72 rfl) rfl
theorem q4872 : (Jvm.Cond.selects "KnowHouse$ProofChecker$Itself" ({ cls := "KnowHouse$ProofChecker$Rule", name := "word", desc := "()Ljava/lang/String;" } : Jvm.MethodName) ({ cls := "KnowHouse$ProofChecker$Plain", name := "word", desc := "()Ljava/lang/String;" } : Jvm.MethodName)) ∈ lw_all := lw_g (lw_at lw_m19 74 rfl) rfl
theorem q4874 : (Jvm.Cond.selects "KnowHouse$ProofChecker$Not" ({ cls := "KnowHouse$ProofChecker$Rule", name := "word", desc := "()Ljava/lang/String;" } : Jvm.MethodName) ({ cls := "KnowHouse$ProofChecker$Plain", name := "word", desc := "()Ljava/lang/String;" } : Jvm.MethodName)) ∈ lw_all := lw_g (lw_at lw_m19 76 rfl) rfl
theorem q4876 : (Jvm.Cond.selects "KnowHouse$ProofChecker$One" ({ cls := "KnowHouse$ProofChecker$Rule", name := "word", desc := "()Ljava/lang/String;" } : Jvm.MethodName) ({ cls := "KnowHouse$ProofChecker$Plain", name := "word", desc := "()Ljava/lang/String;" } : Jvm.MethodName)) ∈ lw_all := lw_g (lw_at lw_m19 78 rfl) rfl
theorem q4878 : (Jvm.Cond.selects "KnowHouse$ProofChecker$Property" ({ cls := "KnowHouse$ProofChecker$Rule", name := "word", desc := "()Ljava/lang/String;" } : Jvm.MethodName) ({ cls := "KnowHouse$ProofChecker$Plain", name := "word", desc := "()Ljava/lang/String;" } : Jvm.MethodName)) ∈ lw_all := lw_g (lw_at lw_m19 80 rfl) rfl
theorem q4880 : (Jvm.Cond.selects "KnowHouse$ProofChecker$Swap" ({ cls := "KnowHouse$ProofChecker$Rule", name := "word", desc := "()Ljava/lang/String;" } : Jvm.MethodName) ({ cls := "KnowHouse$ProofChecker$Plain", name := "word", desc := "()Ljava/lang/String;" } : Jvm.MethodName)) ∈ lw_all := lw_g (lw_at lw_m19 82 rfl) rfl
theorem q4882 : (Jvm.Cond.selects "KnowHouse$ProofChecker$Through" ({ cls := "KnowHouse$ProofChecker$Rule", name := "word", desc := "()Ljava/lang/String;" } : Jvm.MethodName) ({ cls := "KnowHouse$ProofChecker$Plain", name := "word", desc := "()Ljava/lang/String;" } : Jvm.MethodName)) ∈ lw_all := lw_g (lw_at lw_m19 84 rfl) rfl
theorem q4884 : (Jvm.Cond.selects "KnowHouse$ProofChecker$Turn" ({ cls := "KnowHouse$ProofChecker$Rule", name := "word", desc := "()Ljava/lang/String;" } : Jvm.MethodName) ({ cls := "KnowHouse$ProofChecker$Plain", name := "word", desc := "()Ljava/lang/String;" } : Jvm.MethodName)) ∈ lw_all := lw_g (lw_at lw_m19 86 rfl) rfl
theorem hPCx37_X8_row : "KnowHouse$ProofChecker$Rule" ≠ "java/lang/invoke/MethodHandle" ∧ "KnowHouse$ProofChecker$Rule" ≠ "java/lang/invoke/VarHandle" ∧ (parseMethodDescriptor "()I").map (fun d => d.parameters.length) = some 0 := by decide +kernel
theorem hPCx43_X8_premise : "KnowHouse$ProofChecker$Rule" ≠ "java/lang/invoke/MethodHandle" ∧ "KnowHouse$ProofChecker$Rule" ≠ "java/lang/invoke/VarHandle" ∧ (parseMethodDescriptor "()I").map (fun d => d.parameters.length) = some 0 := by decide +kernel
theorem hPCx35_X16_give : "KnowHouse$ProofChecker$OfProperty" ≠ "java/lang/invoke/MethodHandle" ∧ "KnowHouse$ProofChecker$OfProperty" ≠ "java/lang/invoke/VarHandle" ∧ (parseMethodDescriptor "(LKnowHouse$ProofChecker$Statement;[LKnowHouse$ProofChecker$Statement;LKnowHouse$ProofChecker$Statement;)Z").map (fun d => d.parameters.length) = some 3 := by decide +kernel
theorem hPCx42_X8_look : "KnowHouse$ProofChecker$Rule" ≠ "java/lang/invoke/MethodHandle" ∧ "KnowHouse$ProofChecker$Rule" ≠ "java/lang/invoke/VarHandle" ∧ (parseMethodDescriptor "()I").map (fun d => d.parameters.length) = some 0 := by decide +kernel
theorem hPCx169_X8_look : "KnowHouse$ProofChecker$Rule" ≠ "java/lang/invoke/MethodHandle" ∧ "KnowHouse$ProofChecker$Rule" ≠ "java/lang/invoke/VarHandle" ∧ (parseMethodDescriptor "(LKnowHouse$ProofChecker;I[LKnowHouse$ProofChecker$Statement;LKnowHouse$ProofChecker$Statement;)Z").map (fun d => d.parameters.length) = some 4 := by decide +kernel
theorem hPCx64_X8_sentence : "KnowHouse$ProofChecker$Rule" ≠ "java/lang/invoke/MethodHandle" ∧ "KnowHouse$ProofChecker$Rule" ≠ "java/lang/invoke/VarHandle" ∧ (parseMethodDescriptor "()Ljava/lang/String;").map (fun d => d.parameters.length) = some 0 := by decide +kernel
theorem hPCX10_init : yX10_init.cls ≠ "java/lang/invoke/MethodHandle" ∧ yX10_init.cls ≠ "java/lang/invoke/VarHandle" ∧ (parseMethodDescriptor yX10_init.desc).map (fun d => d.parameters.length) = some 2 := by decide +kernel
theorem hPCX16_init : yX16_init.cls ≠ "java/lang/invoke/MethodHandle" ∧ yX16_init.cls ≠ "java/lang/invoke/VarHandle" ∧ (parseMethodDescriptor yX16_init.desc).map (fun d => d.parameters.length) = some 3 := by decide +kernel
theorem hPCX9_init : yX9_init.cls ≠ "java/lang/invoke/MethodHandle" ∧ yX9_init.cls ≠ "java/lang/invoke/VarHandle" ∧ (parseMethodDescriptor yX9_init.desc).map (fun d => d.parameters.length) = some 0 := by decide +kernel
theorem hPCX11_init : yX11_init.cls ≠ "java/lang/invoke/MethodHandle" ∧ yX11_init.cls ≠ "java/lang/invoke/VarHandle" ∧ (parseMethodDescriptor yX11_init.desc).map (fun d => d.parameters.length) = some 0 := by decide +kernel
theorem hPCX12_init : yX12_init.cls ≠ "java/lang/invoke/MethodHandle" ∧ yX12_init.cls ≠ "java/lang/invoke/VarHandle" ∧ (parseMethodDescriptor yX12_init.desc).map (fun d => d.parameters.length) = some 1 := by decide +kernel
theorem hPCX13_init : yX13_init.cls ≠ "java/lang/invoke/MethodHandle" ∧ yX13_init.cls ≠ "java/lang/invoke/VarHandle" ∧ (parseMethodDescriptor yX13_init.desc).map (fun d => d.parameters.length) = some 0 := by decide +kernel
theorem hPCX14_init : yX14_init.cls ≠ "java/lang/invoke/MethodHandle" ∧ yX14_init.cls ≠ "java/lang/invoke/VarHandle" ∧ (parseMethodDescriptor yX14_init.desc).map (fun d => d.parameters.length) = some 2 := by decide +kernel
theorem hPCX15_init : yX15_init.cls ≠ "java/lang/invoke/MethodHandle" ∧ yX15_init.cls ≠ "java/lang/invoke/VarHandle" ∧ (parseMethodDescriptor yX15_init.desc).map (fun d => d.parameters.length) = some 0 := by decide +kernel
theorem hPCX17_init : yX17_init.cls ≠ "java/lang/invoke/MethodHandle" ∧ yX17_init.cls ≠ "java/lang/invoke/VarHandle" ∧ (parseMethodDescriptor yX17_init.desc).map (fun d => d.parameters.length) = some 0 := by decide +kernel
theorem hPCX18_init : yX18_init.cls ≠ "java/lang/invoke/MethodHandle" ∧ yX18_init.cls ≠ "java/lang/invoke/VarHandle" ∧ (parseMethodDescriptor yX18_init.desc).map (fun d => d.parameters.length) = some 1 := by decide +kernel
theorem hPCX19_init : yX19_init.cls ≠ "java/lang/invoke/MethodHandle" ∧ yX19_init.cls ≠ "java/lang/invoke/VarHandle" ∧ (parseMethodDescriptor yX19_init.desc).map (fun d => d.parameters.length) = some 1 := by decide +kernel
theorem hPCX20_init : yX20_init.cls ≠ "java/lang/invoke/MethodHandle" ∧ yX20_init.cls ≠ "java/lang/invoke/VarHandle" ∧ (parseMethodDescriptor yX20_init.desc).map (fun d => d.parameters.length) = some 0 := by decide +kernel
theorem hPCX21_init : yX21_init.cls ≠ "java/lang/invoke/MethodHandle" ∧ yX21_init.cls ≠ "java/lang/invoke/VarHandle" ∧ (parseMethodDescriptor yX21_init.desc).map (fun d => d.parameters.length) = some 0 := by decide +kernel
theorem hPCX22_init : yX22_init.cls ≠ "java/lang/invoke/MethodHandle" ∧ yX22_init.cls ≠ "java/lang/invoke/VarHandle" ∧ (parseMethodDescriptor yX22_init.desc).map (fun d => d.parameters.length) = some 0 := by decide +kernel
theorem hPCX23_init : yX23_init.cls ≠ "java/lang/invoke/MethodHandle" ∧ yX23_init.cls ≠ "java/lang/invoke/VarHandle" ∧ (parseMethodDescriptor yX23_init.desc).map (fun d => d.parameters.length) = some 0 := by decide +kernel
theorem hPCX24_init : yX24_init.cls ≠ "java/lang/invoke/MethodHandle" ∧ yX24_init.cls ≠ "java/lang/invoke/VarHandle" ∧ (parseMethodDescriptor yX24_init.desc).map (fun d => d.parameters.length) = some 0 := by decide +kernel
theorem hPCX25_init : yX25_init.cls ≠ "java/lang/invoke/MethodHandle" ∧ yX25_init.cls ≠ "java/lang/invoke/VarHandle" ∧ (parseMethodDescriptor yX25_init.desc).map (fun d => d.parameters.length) = some 0 := by decide +kernel
theorem hPCX26_init : yX26_init.cls ≠ "java/lang/invoke/MethodHandle" ∧ yX26_init.cls ≠ "java/lang/invoke/VarHandle" ∧ (parseMethodDescriptor yX26_init.desc).map (fun d => d.parameters.length) = some 0 := by decide +kernel
theorem hPCX8_isTerm : yX8_isTerm.cls ≠ "java/lang/invoke/MethodHandle" ∧ yX8_isTerm.cls ≠ "java/lang/invoke/VarHandle" ∧ (parseMethodDescriptor yX8_isTerm.desc).map (fun d => d.parameters.length) = some 1 := by decide +kernel
theorem hPCX8_isAlone : yX8_isAlone.cls ≠ "java/lang/invoke/MethodHandle" ∧ yX8_isAlone.cls ≠ "java/lang/invoke/VarHandle" ∧ (parseMethodDescriptor yX8_isAlone.desc).map (fun d => d.parameters.length) = some 1 := by decide +kernel
theorem hPCX9_set : yX9_set.cls ≠ "java/lang/invoke/MethodHandle" ∧ yX9_set.cls ≠ "java/lang/invoke/VarHandle" ∧ (parseMethodDescriptor yX9_set.desc).map (fun d => d.parameters.length) = some 4 := by decide +kernel
theorem hPCX9_is : yX9_is.cls ≠ "java/lang/invoke/MethodHandle" ∧ yX9_is.cls ≠ "java/lang/invoke/VarHandle" ∧ (parseMethodDescriptor yX9_is.desc).map (fun d => d.parameters.length) = some 1 := by decide +kernel
theorem hPCX9_copy : yX9_copy.cls ≠ "java/lang/invoke/MethodHandle" ∧ yX9_copy.cls ≠ "java/lang/invoke/VarHandle" ∧ (parseMethodDescriptor yX9_copy.desc).map (fun d => d.parameters.length) = some 1 := by decide +kernel
theorem hPCX8_isInstance : yX8_isInstance.cls ≠ "java/lang/invoke/MethodHandle" ∧ yX8_isInstance.cls ≠ "java/lang/invoke/VarHandle" ∧ (parseMethodDescriptor yX8_isInstance.desc).map (fun d => d.parameters.length) = some 2 := by decide +kernel
theorem hPCX8_isRow : yX8_isRow.cls ≠ "java/lang/invoke/MethodHandle" ∧ yX8_isRow.cls ≠ "java/lang/invoke/VarHandle" ∧ (parseMethodDescriptor yX8_isRow.desc).map (fun d => d.parameters.length) = some 1 := by decide +kernel
theorem hPCX26_set : yX26_set.cls ≠ "java/lang/invoke/MethodHandle" ∧ yX26_set.cls ≠ "java/lang/invoke/VarHandle" ∧ (parseMethodDescriptor yX26_set.desc).map (fun d => d.parameters.length) = some 2 := by decide +kernel
theorem hPCX8_isOf : yX8_isOf.cls ≠ "java/lang/invoke/MethodHandle" ∧ yX8_isOf.cls ≠ "java/lang/invoke/VarHandle" ∧ (parseMethodDescriptor yX8_isOf.desc).map (fun d => d.parameters.length) = some 2 := by decide +kernel
theorem hPCX8_look : yX8_look.cls ≠ "java/lang/invoke/MethodHandle" ∧ yX8_look.cls ≠ "java/lang/invoke/VarHandle" ∧ (parseMethodDescriptor yX8_look.desc).map (fun d => d.parameters.length) = some 1 := by decide +kernel
theorem hPCX8_need : yX8_need.cls ≠ "java/lang/invoke/MethodHandle" ∧ yX8_need.cls ≠ "java/lang/invoke/VarHandle" ∧ (parseMethodDescriptor yX8_need.desc).map (fun d => d.parameters.length) = some 1 := by decide +kernel
theorem hPCX8_arePremisesRight : yX8_arePremisesRight.cls ≠ "java/lang/invoke/MethodHandle" ∧ yX8_arePremisesRight.cls ≠ "java/lang/invoke/VarHandle" ∧ (parseMethodDescriptor yX8_arePremisesRight.desc).map (fun d => d.parameters.length) = some 1 := by decide +kernel
theorem hPCX26_take : yX26_take.cls ≠ "java/lang/invoke/MethodHandle" ∧ yX26_take.cls ≠ "java/lang/invoke/VarHandle" ∧ (parseMethodDescriptor yX26_take.desc).map (fun d => d.parameters.length) = some 1 := by decide +kernel
theorem hPCJ16_coder : yJ16_coder.cls ≠ "java/lang/invoke/MethodHandle" ∧ yJ16_coder.cls ≠ "java/lang/invoke/VarHandle" ∧ (parseMethodDescriptor yJ16_coder.desc).map (fun d => d.parameters.length) = some 0 := by decide +kernel
theorem hPCJ15_checkIndex : yJ15_checkIndex.cls ≠ "java/lang/invoke/MethodHandle" ∧ yJ15_checkIndex.cls ≠ "java/lang/invoke/VarHandle" ∧ (parseMethodDescriptor yJ15_checkIndex.desc).map (fun d => d.parameters.length) = some 3 := by decide +kernel
theorem hPCJ16_checkIndex : yJ16_checkIndex.cls ≠ "java/lang/invoke/MethodHandle" ∧ yJ16_checkIndex.cls ≠ "java/lang/invoke/VarHandle" ∧ (parseMethodDescriptor yJ16_checkIndex.desc).map (fun d => d.parameters.length) = some 2 := by decide +kernel
theorem hPCJ16_isLatin1 : yJ16_isLatin1.cls ≠ "java/lang/invoke/MethodHandle" ∧ yJ16_isLatin1.cls ≠ "java/lang/invoke/VarHandle" ∧ (parseMethodDescriptor yJ16_isLatin1.desc).map (fun d => d.parameters.length) = some 0 := by decide +kernel
theorem hPCJ17_charAt : yJ17_charAt.cls ≠ "java/lang/invoke/MethodHandle" ∧ yJ17_charAt.cls ≠ "java/lang/invoke/VarHandle" ∧ (parseMethodDescriptor yJ17_charAt.desc).map (fun d => d.parameters.length) = some 2 := by decide +kernel
theorem hPCJ16_length : yJ16_length.cls ≠ "java/lang/invoke/MethodHandle" ∧ yJ16_length.cls ≠ "java/lang/invoke/VarHandle" ∧ (parseMethodDescriptor yJ16_length.desc).map (fun d => d.parameters.length) = some 0 := by decide +kernel
theorem hPCJ16_charAt : yJ16_charAt.cls ≠ "java/lang/invoke/MethodHandle" ∧ yJ16_charAt.cls ≠ "java/lang/invoke/VarHandle" ∧ (parseMethodDescriptor yJ16_charAt.desc).map (fun d => d.parameters.length) = some 1 := by decide +kernel
theorem hPCX8_sayNumber : yX8_sayNumber.cls ≠ "java/lang/invoke/MethodHandle" ∧ yX8_sayNumber.cls ≠ "java/lang/invoke/VarHandle" ∧ (parseMethodDescriptor yX8_sayNumber.desc).map (fun d => d.parameters.length) = some 1 := by decide +kernel
theorem hPCX8_pattern : yX8_pattern.cls ≠ "java/lang/invoke/MethodHandle" ∧ yX8_pattern.cls ≠ "java/lang/invoke/VarHandle" ∧ (parseMethodDescriptor yX8_pattern.desc).map (fun d => d.parameters.length) = some 1 := by decide +kernel
theorem hPCX8_sayWith : yX8_sayWith.cls ≠ "java/lang/invoke/MethodHandle" ∧ yX8_sayWith.cls ≠ "java/lang/invoke/VarHandle" ∧ (parseMethodDescriptor yX8_sayWith.desc).map (fun d => d.parameters.length) = some 3 := by decide +kernel
theorem hPCX8_say : yX8_say.cls ≠ "java/lang/invoke/MethodHandle" ∧ yX8_say.cls ≠ "java/lang/invoke/VarHandle" ∧ (parseMethodDescriptor yX8_say.desc).map (fun d => d.parameters.length) = some 1 := by decide +kernel
theorem hPCX8_sayStatement : yX8_sayStatement.cls ≠ "java/lang/invoke/MethodHandle" ∧ yX8_sayStatement.cls ≠ "java/lang/invoke/VarHandle" ∧ (parseMethodDescriptor yX8_sayStatement.desc).map (fun d => d.parameters.length) = some 1 := by decide +kernel
def kEPC (G : kGt) (sa : Nat → Nat) (so : kSo) : Prop := ∀ (A : Nat → Prop) (s : State) (H : Heap), G A s H → vk_R "KnowHouse$ProofChecker$Axiom" 1 "axiom" (sa 290) s ∧ vk_R "KnowHouse$ProofChecker$Given" 5 "given" (sa 296) s ∧ vk_R "KnowHouse$ProofChecker$Given" 3 "anything" (sa 295) s ∧ vk_R "KnowHouse$ProofChecker$Itself" 3 "itself" (sa 297) s ∧ vk_R "KnowHouse$ProofChecker$ClassRule" 3 "class" (sa 291) s ∧ vk_R "KnowHouse$ProofChecker$Property" 3 "property" (sa 300) s ∧ vk_R "KnowHouse$ProofChecker$End" 5 "leads" (sa 293) s ∧ vk_R "KnowHouse$ProofChecker$End" 3 "begins" (sa 292) s ∧ vk_R "KnowHouse$ProofChecker$Turn" 5 "other" (sa 304) s ∧ vk_R "KnowHouse$ProofChecker$Turn" 3 "either" (sa 303) s ∧ vk_R "KnowHouse$ProofChecker$Through" 3 "through" (sa 302) s ∧ vk_R "KnowHouse$ProofChecker$Swap" 3 "swap" (sa 301) s ∧ vk_R "KnowHouse$ProofChecker$Equal" 3 "equal" (sa 294) s ∧ vk_R "KnowHouse$ProofChecker$One" 3 "one" (sa 299) s ∧ vk_R "KnowHouse$ProofChecker$Apart" 3 "apart" (sa 289) s ∧ vk_R "KnowHouse$ProofChecker$Not" 3 "not" (sa 298) s ∧ vk_R "KnowHouse$ProofChecker" 70 "below" (sa 267) s ∧ vk_R "KnowHouse$ProofChecker" 75 "properties" (sa 268) s ∧ va_Fw "KnowHouse$ProofChecker$Axiom" ⟨"KnowHouse$ProofChecker$Rule", "premises", "()I"⟩ ⟨"KnowHouse$ProofChecker$Plain", "premises", "()I"⟩ s ∧ va_Fw "KnowHouse$ProofChecker$Given" ⟨"KnowHouse$ProofChecker$Rule", "premises", "()I"⟩ ⟨"KnowHouse$ProofChecker$Plain", "premises", "()I"⟩ s ∧ va_Fw "KnowHouse$ProofChecker$Itself" ⟨"KnowHouse$ProofChecker$Rule", "premises", "()I"⟩ ⟨"KnowHouse$ProofChecker$Plain", "premises", "()I"⟩ s ∧ va_Fw "KnowHouse$ProofChecker$Chain" ⟨"KnowHouse$ProofChecker$Rule", "premises", "()I"⟩ ⟨"KnowHouse$ProofChecker$Plain", "premises", "()I"⟩ s ∧ va_Fw "KnowHouse$ProofChecker$ClassRule" ⟨"KnowHouse$ProofChecker$Rule", "premises", "()I"⟩ ⟨"KnowHouse$ProofChecker$Plain", "premises", "()I"⟩ s ∧ va_Fw "KnowHouse$ProofChecker$Property" ⟨"KnowHouse$ProofChecker$Rule", "premises", "()I"⟩ ⟨"KnowHouse$ProofChecker$Plain", "premises", "()I"⟩ s ∧ va_Fw "KnowHouse$ProofChecker$End" ⟨"KnowHouse$ProofChecker$Rule", "premises", "()I"⟩ ⟨"KnowHouse$ProofChecker$Plain", "premises", "()I"⟩ s ∧ va_Fw "KnowHouse$ProofChecker$Turn" ⟨"KnowHouse$ProofChecker$Rule", "premises", "()I"⟩ ⟨"KnowHouse$ProofChecker$Plain", "premises", "()I"⟩ s ∧ va_Fw "KnowHouse$ProofChecker$Through" ⟨"KnowHouse$ProofChecker$Rule", "premises", "()I"⟩ ⟨"KnowHouse$ProofChecker$Plain", "premises", "()I"⟩ s ∧ va_Fw "KnowHouse$ProofChecker$Swap" ⟨"KnowHouse$ProofChecker$Rule", "premises", "()I"⟩ ⟨"KnowHouse$ProofChecker$Plain", "premises", "()I"⟩ s ∧ va_Fw "KnowHouse$ProofChecker$Equal" ⟨"KnowHouse$ProofChecker$Rule", "premises", "()I"⟩ ⟨"KnowHouse$ProofChecker$Plain", "premises", "()I"⟩ s ∧ va_Fw "KnowHouse$ProofChecker$One" ⟨"KnowHouse$ProofChecker$Rule", "premises", "()I"⟩ ⟨"KnowHouse$ProofChecker$Plain", "premises", "()I"⟩ s ∧ va_Fw "KnowHouse$ProofChecker$Apart" ⟨"KnowHouse$ProofChecker$Rule", "premises", "()I"⟩ ⟨"KnowHouse$ProofChecker$Plain", "premises", "()I"⟩ s ∧ va_Fw "KnowHouse$ProofChecker$Not" ⟨"KnowHouse$ProofChecker$Rule", "premises", "()I"⟩ ⟨"KnowHouse$ProofChecker$Plain", "premises", "()I"⟩ s ∧ va_Fw "KnowHouse$ProofChecker$Axiom" ⟨"KnowHouse$ProofChecker$Rule", "give", "(LKnowHouse$ProofChecker;I[LKnowHouse$ProofChecker$Statement;LKnowHouse$ProofChecker$Statement;)Z"⟩ ⟨"KnowHouse$ProofChecker$Axiom", "give", "(LKnowHouse$ProofChecker;I[LKnowHouse$ProofChecker$Statement;LKnowHouse$ProofChecker$Statement;)Z"⟩ s ∧ va_Fw "KnowHouse$ProofChecker$Given" ⟨"KnowHouse$ProofChecker$Rule", "give", "(LKnowHouse$ProofChecker;I[LKnowHouse$ProofChecker$Statement;LKnowHouse$ProofChecker$Statement;)Z"⟩ ⟨"KnowHouse$ProofChecker$Given", "give", "(LKnowHouse$ProofChecker;I[LKnowHouse$ProofChecker$Statement;LKnowHouse$ProofChecker$Statement;)Z"⟩ s ∧ va_Fw "KnowHouse$ProofChecker$Itself" ⟨"KnowHouse$ProofChecker$Rule", "give", "(LKnowHouse$ProofChecker;I[LKnowHouse$ProofChecker$Statement;LKnowHouse$ProofChecker$Statement;)Z"⟩ ⟨"KnowHouse$ProofChecker$Itself", "give", "(LKnowHouse$ProofChecker;I[LKnowHouse$ProofChecker$Statement;LKnowHouse$ProofChecker$Statement;)Z"⟩ s ∧ va_Fw "KnowHouse$ProofChecker$Chain" ⟨"KnowHouse$ProofChecker$Rule", "give", "(LKnowHouse$ProofChecker;I[LKnowHouse$ProofChecker$Statement;LKnowHouse$ProofChecker$Statement;)Z"⟩ ⟨"KnowHouse$ProofChecker$Chain", "give", "(LKnowHouse$ProofChecker;I[LKnowHouse$ProofChecker$Statement;LKnowHouse$ProofChecker$Statement;)Z"⟩ s ∧ va_Fw "KnowHouse$ProofChecker$ClassRule" ⟨"KnowHouse$ProofChecker$Rule", "give", "(LKnowHouse$ProofChecker;I[LKnowHouse$ProofChecker$Statement;LKnowHouse$ProofChecker$Statement;)Z"⟩ ⟨"KnowHouse$ProofChecker$ClassRule", "give", "(LKnowHouse$ProofChecker;I[LKnowHouse$ProofChecker$Statement;LKnowHouse$ProofChecker$Statement;)Z"⟩ s ∧ va_Fw "KnowHouse$ProofChecker$Property" ⟨"KnowHouse$ProofChecker$Rule", "give", "(LKnowHouse$ProofChecker;I[LKnowHouse$ProofChecker$Statement;LKnowHouse$ProofChecker$Statement;)Z"⟩ ⟨"KnowHouse$ProofChecker$OfProperty", "give", "(LKnowHouse$ProofChecker;I[LKnowHouse$ProofChecker$Statement;LKnowHouse$ProofChecker$Statement;)Z"⟩ s ∧ va_Fw "KnowHouse$ProofChecker$End" ⟨"KnowHouse$ProofChecker$Rule", "give", "(LKnowHouse$ProofChecker;I[LKnowHouse$ProofChecker$Statement;LKnowHouse$ProofChecker$Statement;)Z"⟩ ⟨"KnowHouse$ProofChecker$OfProperty", "give", "(LKnowHouse$ProofChecker;I[LKnowHouse$ProofChecker$Statement;LKnowHouse$ProofChecker$Statement;)Z"⟩ s ∧ va_Fw "KnowHouse$ProofChecker$Turn" ⟨"KnowHouse$ProofChecker$Rule", "give", "(LKnowHouse$ProofChecker;I[LKnowHouse$ProofChecker$Statement;LKnowHouse$ProofChecker$Statement;)Z"⟩ ⟨"KnowHouse$ProofChecker$OfProperty", "give", "(LKnowHouse$ProofChecker;I[LKnowHouse$ProofChecker$Statement;LKnowHouse$ProofChecker$Statement;)Z"⟩ s ∧ va_Fw "KnowHouse$ProofChecker$Through" ⟨"KnowHouse$ProofChecker$Rule", "give", "(LKnowHouse$ProofChecker;I[LKnowHouse$ProofChecker$Statement;LKnowHouse$ProofChecker$Statement;)Z"⟩ ⟨"KnowHouse$ProofChecker$OfProperty", "give", "(LKnowHouse$ProofChecker;I[LKnowHouse$ProofChecker$Statement;LKnowHouse$ProofChecker$Statement;)Z"⟩ s ∧ va_Fw "KnowHouse$ProofChecker$Swap" ⟨"KnowHouse$ProofChecker$Rule", "give", "(LKnowHouse$ProofChecker;I[LKnowHouse$ProofChecker$Statement;LKnowHouse$ProofChecker$Statement;)Z"⟩ ⟨"KnowHouse$ProofChecker$Swap", "give", "(LKnowHouse$ProofChecker;I[LKnowHouse$ProofChecker$Statement;LKnowHouse$ProofChecker$Statement;)Z"⟩ s ∧ va_Fw "KnowHouse$ProofChecker$Equal" ⟨"KnowHouse$ProofChecker$Rule", "give", "(LKnowHouse$ProofChecker;I[LKnowHouse$ProofChecker$Statement;LKnowHouse$ProofChecker$Statement;)Z"⟩ ⟨"KnowHouse$ProofChecker$Equal", "give", "(LKnowHouse$ProofChecker;I[LKnowHouse$ProofChecker$Statement;LKnowHouse$ProofChecker$Statement;)Z"⟩ s ∧ va_Fw "KnowHouse$ProofChecker$One" ⟨"KnowHouse$ProofChecker$Rule", "give", "(LKnowHouse$ProofChecker;I[LKnowHouse$ProofChecker$Statement;LKnowHouse$ProofChecker$Statement;)Z"⟩ ⟨"KnowHouse$ProofChecker$OfProperty", "give", "(LKnowHouse$ProofChecker;I[LKnowHouse$ProofChecker$Statement;LKnowHouse$ProofChecker$Statement;)Z"⟩ s ∧ va_Fw "KnowHouse$ProofChecker$Apart" ⟨"KnowHouse$ProofChecker$Rule", "give", "(LKnowHouse$ProofChecker;I[LKnowHouse$ProofChecker$Statement;LKnowHouse$ProofChecker$Statement;)Z"⟩ ⟨"KnowHouse$ProofChecker$Apart", "give", "(LKnowHouse$ProofChecker;I[LKnowHouse$ProofChecker$Statement;LKnowHouse$ProofChecker$Statement;)Z"⟩ s ∧ va_Fw "KnowHouse$ProofChecker$Not" ⟨"KnowHouse$ProofChecker$Rule", "give", "(LKnowHouse$ProofChecker;I[LKnowHouse$ProofChecker$Statement;LKnowHouse$ProofChecker$Statement;)Z"⟩ ⟨"KnowHouse$ProofChecker$Not", "give", "(LKnowHouse$ProofChecker;I[LKnowHouse$ProofChecker$Statement;LKnowHouse$ProofChecker$Statement;)Z"⟩ s ∧ va_Z "java/lang/String" "COMPACT_STRINGS" "Z" (.int 1) A s H ∧ kSf so A s H ∧ va_Z "jdk/internal/util/Preconditions" "SIOOBE_FORMATTER" "Ljava/util/function/BiFunction;" (.ref (sa 11)) A s H ∧ vk_R "KnowHouse$ProofChecker" 227 "class A is below class B" (sa 269) s ∧ vk_R "KnowHouse$ProofChecker" 229 "A is below B" (sa 270) s ∧ vk_R "KnowHouse$ProofChecker" 231 "what A begins at is class B" (sa 271) s ∧ vk_R "KnowHouse$ProofChecker" 233 "what A leads to is class B" (sa 272) s ∧ vk_R "KnowHouse$ProofChecker" 235 "class A and class B have nothing in common" (sa 273) s ∧ vk_R "KnowHouse$ProofChecker" 237 "A goes through" (sa 274) s ∧ vk_R "KnowHouse$ProofChecker" 239 "A goes either way" (sa 275) s ∧ vk_R "KnowHouse$ProofChecker" 241 "A is B the other way" (sa 276) s ∧ vk_R "KnowHouse$ProofChecker" 243 "A leads to one" (sa 277) s ∧ vk_R "KnowHouse$ProofChecker" 245 "A is not B" (sa 278) s ∧ vk_R "KnowHouse$ProofChecker" 249 "nothing" (sa 280) s ∧ vk_R "KnowHouse$ProofChecker" 247 "contradiction" (sa 279) s ∧ vk_R "KnowHouse$ProofChecker" 261 "A is B" (sa 282) s ∧ vk_R "KnowHouse$ProofChecker" 259 "A is class B" (sa 281) s ∧ vk_R "KnowHouse$ProofChecker" 263 "A B " (sa 283) s ∧ vk_R "KnowHouse$ProofChecker" 265 ". " (sa 284) s ∧ vk_R "KnowHouse$ProofChecker" 274 ", by " (sa 285) s ∧ va_Fw "KnowHouse$ProofChecker$Axiom" ⟨"KnowHouse$ProofChecker$Rule", "word", "()Ljava/lang/String;"⟩ ⟨"KnowHouse$ProofChecker$Plain", "word", "()Ljava/lang/String;"⟩ s ∧ va_Fw "KnowHouse$ProofChecker$Given" ⟨"KnowHouse$ProofChecker$Rule", "word", "()Ljava/lang/String;"⟩ ⟨"KnowHouse$ProofChecker$Plain", "word", "()Ljava/lang/String;"⟩ s ∧ va_Fw "KnowHouse$ProofChecker$Itself" ⟨"KnowHouse$ProofChecker$Rule", "word", "()Ljava/lang/String;"⟩ ⟨"KnowHouse$ProofChecker$Plain", "word", "()Ljava/lang/String;"⟩ s ∧ va_Fw "KnowHouse$ProofChecker$Chain" ⟨"KnowHouse$ProofChecker$Rule", "word", "()Ljava/lang/String;"⟩ ⟨"KnowHouse$ProofChecker$Plain", "word", "()Ljava/lang/String;"⟩ s ∧ va_Fw "KnowHouse$ProofChecker$ClassRule" ⟨"KnowHouse$ProofChecker$Rule", "word", "()Ljava/lang/String;"⟩ ⟨"KnowHouse$ProofChecker$Plain", "word", "()Ljava/lang/String;"⟩ s ∧ va_Fw "KnowHouse$ProofChecker$Property" ⟨"KnowHouse$ProofChecker$Rule", "word", "()Ljava/lang/String;"⟩ ⟨"KnowHouse$ProofChecker$Plain", "word", "()Ljava/lang/String;"⟩ s ∧ va_Fw "KnowHouse$ProofChecker$End" ⟨"KnowHouse$ProofChecker$Rule", "word", "()Ljava/lang/String;"⟩ ⟨"KnowHouse$ProofChecker$Plain", "word", "()Ljava/lang/String;"⟩ s ∧ va_Fw "KnowHouse$ProofChecker$Turn" ⟨"KnowHouse$ProofChecker$Rule", "word", "()Ljava/lang/String;"⟩ ⟨"KnowHouse$ProofChecker$Plain", "word", "()Ljava/lang/String;"⟩ s ∧ va_Fw "KnowHouse$ProofChecker$Through" ⟨"KnowHouse$ProofChecker$Rule", "word", "()Ljava/lang/String;"⟩ ⟨"KnowHouse$ProofChecker$Plain", "word", "()Ljava/lang/String;"⟩ s ∧ va_Fw "KnowHouse$ProofChecker$Swap" ⟨"KnowHouse$ProofChecker$Rule", "word", "()Ljava/lang/String;"⟩ ⟨"KnowHouse$ProofChecker$Plain", "word", "()Ljava/lang/String;"⟩ s ∧ va_Fw "KnowHouse$ProofChecker$Equal" ⟨"KnowHouse$ProofChecker$Rule", "word", "()Ljava/lang/String;"⟩ ⟨"KnowHouse$ProofChecker$Plain", "word", "()Ljava/lang/String;"⟩ s ∧ va_Fw "KnowHouse$ProofChecker$One" ⟨"KnowHouse$ProofChecker$Rule", "word", "()Ljava/lang/String;"⟩ ⟨"KnowHouse$ProofChecker$Plain", "word", "()Ljava/lang/String;"⟩ s ∧ va_Fw "KnowHouse$ProofChecker$Apart" ⟨"KnowHouse$ProofChecker$Rule", "word", "()Ljava/lang/String;"⟩ ⟨"KnowHouse$ProofChecker$Plain", "word", "()Ljava/lang/String;"⟩ s ∧ va_Fw "KnowHouse$ProofChecker$Not" ⟨"KnowHouse$ProofChecker$Rule", "word", "()Ljava/lang/String;"⟩ ⟨"KnowHouse$ProofChecker$Plain", "word", "()Ljava/lang/String;"⟩ s ∧ vk_R "KnowHouse$ProofChecker" 282 " and " (sa 287) s ∧ vk_R "KnowHouse$ProofChecker" 280 " from " (sa 286) s ∧ vk_R "KnowHouse$ProofChecker" 284 "." (sa 288) s ∧ True
theorem kEPC_0 {G : kGt} {sa : Nat → Nat} {so : kSo} (h : kEPC G sa so) {A : Nat → Prop} {s : State} {H : Heap} (g : G A s H) : vk_R "KnowHouse$ProofChecker$Axiom" 1 "axiom" (sa 290) s := (h A s H g).1
theorem kEPC_1 {G : kGt} {sa : Nat → Nat} {so : kSo} (h : kEPC G sa so) {A : Nat → Prop} {s : State} {H : Heap} (g : G A s H) : vk_R "KnowHouse$ProofChecker$Given" 5 "given" (sa 296) s := (h A s H g).2.1
theorem kEPC_2 {G : kGt} {sa : Nat → Nat} {so : kSo} (h : kEPC G sa so) {A : Nat → Prop} {s : State} {H : Heap} (g : G A s H) : vk_R "KnowHouse$ProofChecker$Given" 3 "anything" (sa 295) s := (h A s H g).2.2.1
theorem kEPC_3 {G : kGt} {sa : Nat → Nat} {so : kSo} (h : kEPC G sa so) {A : Nat → Prop} {s : State} {H : Heap} (g : G A s H) : vk_R "KnowHouse$ProofChecker$Itself" 3 "itself" (sa 297) s := (h A s H g).2.2.2.1
theorem kEPC_4 {G : kGt} {sa : Nat → Nat} {so : kSo} (h : kEPC G sa so) {A : Nat → Prop} {s : State} {H : Heap} (g : G A s H) : vk_R "KnowHouse$ProofChecker$ClassRule" 3 "class" (sa 291) s := (h A s H g).2.2.2.2.1
theorem kEPC_5 {G : kGt} {sa : Nat → Nat} {so : kSo} (h : kEPC G sa so) {A : Nat → Prop} {s : State} {H : Heap} (g : G A s H) : vk_R "KnowHouse$ProofChecker$Property" 3 "property" (sa 300) s := (h A s H g).2.2.2.2.2.1
theorem kEPC_6 {G : kGt} {sa : Nat → Nat} {so : kSo} (h : kEPC G sa so) {A : Nat → Prop} {s : State} {H : Heap} (g : G A s H) : vk_R "KnowHouse$ProofChecker$End" 5 "leads" (sa 293) s := (h A s H g).2.2.2.2.2.2.1
theorem kEPC_7 {G : kGt} {sa : Nat → Nat} {so : kSo} (h : kEPC G sa so) {A : Nat → Prop} {s : State} {H : Heap} (g : G A s H) : vk_R "KnowHouse$ProofChecker$End" 3 "begins" (sa 292) s := (h A s H g).2.2.2.2.2.2.2.1
theorem kEPC_8 {G : kGt} {sa : Nat → Nat} {so : kSo} (h : kEPC G sa so) {A : Nat → Prop} {s : State} {H : Heap} (g : G A s H) : vk_R "KnowHouse$ProofChecker$Turn" 5 "other" (sa 304) s := (h A s H g).2.2.2.2.2.2.2.2.1
theorem kEPC_9 {G : kGt} {sa : Nat → Nat} {so : kSo} (h : kEPC G sa so) {A : Nat → Prop} {s : State} {H : Heap} (g : G A s H) : vk_R "KnowHouse$ProofChecker$Turn" 3 "either" (sa 303) s := (h A s H g).2.2.2.2.2.2.2.2.2.1
theorem kEPC_10 {G : kGt} {sa : Nat → Nat} {so : kSo} (h : kEPC G sa so) {A : Nat → Prop} {s : State} {H : Heap} (g : G A s H) : vk_R "KnowHouse$ProofChecker$Through" 3 "through" (sa 302) s := (h A s H g).2.2.2.2.2.2.2.2.2.2.1
theorem kEPC_11 {G : kGt} {sa : Nat → Nat} {so : kSo} (h : kEPC G sa so) {A : Nat → Prop} {s : State} {H : Heap} (g : G A s H) : vk_R "KnowHouse$ProofChecker$Swap" 3 "swap" (sa 301) s := (h A s H g).2.2.2.2.2.2.2.2.2.2.2.1
theorem kEPC_12 {G : kGt} {sa : Nat → Nat} {so : kSo} (h : kEPC G sa so) {A : Nat → Prop} {s : State} {H : Heap} (g : G A s H) : vk_R "KnowHouse$ProofChecker$Equal" 3 "equal" (sa 294) s := (h A s H g).2.2.2.2.2.2.2.2.2.2.2.2.1
theorem kEPC_13 {G : kGt} {sa : Nat → Nat} {so : kSo} (h : kEPC G sa so) {A : Nat → Prop} {s : State} {H : Heap} (g : G A s H) : vk_R "KnowHouse$ProofChecker$One" 3 "one" (sa 299) s := (h A s H g).2.2.2.2.2.2.2.2.2.2.2.2.2.1
theorem kEPC_14 {G : kGt} {sa : Nat → Nat} {so : kSo} (h : kEPC G sa so) {A : Nat → Prop} {s : State} {H : Heap} (g : G A s H) : vk_R "KnowHouse$ProofChecker$Apart" 3 "apart" (sa 289) s := (h A s H g).2.2.2.2.2.2.2.2.2.2.2.2.2.2.1
theorem kEPC_15 {G : kGt} {sa : Nat → Nat} {so : kSo} (h : kEPC G sa so) {A : Nat → Prop} {s : State} {H : Heap} (g : G A s H) : vk_R "KnowHouse$ProofChecker$Not" 3 "not" (sa 298) s := (h A s H g).2.2.2.2.2.2.2.2.2.2.2.2.2.2.2.1
theorem kEPC_16 {G : kGt} {sa : Nat → Nat} {so : kSo} (h : kEPC G sa so) {A : Nat → Prop} {s : State} {H : Heap} (g : G A s H) : vk_R "KnowHouse$ProofChecker" 70 "below" (sa 267) s := (h A s H g).2.2.2.2.2.2.2.2.2.2.2.2.2.2.2.2.1
theorem kEPC_17 {G : kGt} {sa : Nat → Nat} {so : kSo} (h : kEPC G sa so) {A : Nat → Prop} {s : State} {H : Heap} (g : G A s H) : vk_R "KnowHouse$ProofChecker" 75 "properties" (sa 268) s := (h A s H g).2.2.2.2.2.2.2.2.2.2.2.2.2.2.2.2.2.1
theorem kEPC_18 {G : kGt} {sa : Nat → Nat} {so : kSo} (h : kEPC G sa so) {A : Nat → Prop} {s : State} {H : Heap} (g : G A s H) : va_Fw "KnowHouse$ProofChecker$Axiom" ⟨"KnowHouse$ProofChecker$Rule", "premises", "()I"⟩ ⟨"KnowHouse$ProofChecker$Plain", "premises", "()I"⟩ s := (h A s H g).2.2.2.2.2.2.2.2.2.2.2.2.2.2.2.2.2.2.1
theorem kEPC_19 {G : kGt} {sa : Nat → Nat} {so : kSo} (h : kEPC G sa so) {A : Nat → Prop} {s : State} {H : Heap} (g : G A s H) : va_Fw "KnowHouse$ProofChecker$Given" ⟨"KnowHouse$ProofChecker$Rule", "premises", "()I"⟩ ⟨"KnowHouse$ProofChecker$Plain", "premises", "()I"⟩ s := (h A s H g).2.2.2.2.2.2.2.2.2.2.2.2.2.2.2.2.2.2.2.1
theorem kEPC_20 {G : kGt} {sa : Nat → Nat} {so : kSo} (h : kEPC G sa so) {A : Nat → Prop} {s : State} {H : Heap} (g : G A s H) : va_Fw "KnowHouse$ProofChecker$Itself" ⟨"KnowHouse$ProofChecker$Rule", "premises", "()I"⟩ ⟨"KnowHouse$ProofChecker$Plain", "premises", "()I"⟩ s := (h A s H g).2.2.2.2.2.2.2.2.2.2.2.2.2.2.2.2.2.2.2.2.1
theorem kEPC_21 {G : kGt} {sa : Nat → Nat} {so : kSo} (h : kEPC G sa so) {A : Nat → Prop} {s : State} {H : Heap} (g : G A s H) : va_Fw "KnowHouse$ProofChecker$Chain" ⟨"KnowHouse$ProofChecker$Rule", "premises", "()I"⟩ ⟨"KnowHouse$ProofChecker$Plain", "premises", "()I"⟩ s := (h A s H g).2.2.2.2.2.2.2.2.2.2.2.2.2.2.2.2.2.2.2.2.2.1
theorem kEPC_22 {G : kGt} {sa : Nat → Nat} {so : kSo} (h : kEPC G sa so) {A : Nat → Prop} {s : State} {H : Heap} (g : G A s H) : va_Fw "KnowHouse$ProofChecker$ClassRule" ⟨"KnowHouse$ProofChecker$Rule", "premises", "()I"⟩ ⟨"KnowHouse$ProofChecker$Plain", "premises", "()I"⟩ s := (h A s H g).2.2.2.2.2.2.2.2.2.2.2.2.2.2.2.2.2.2.2.2.2.2.1
theorem kEPC_23 {G : kGt} {sa : Nat → Nat} {so : kSo} (h : kEPC G sa so) {A : Nat → Prop} {s : State} {H : Heap} (g : G A s H) : va_Fw "KnowHouse$ProofChecker$Property" ⟨"KnowHouse$ProofChecker$Rule", "premises", "()I"⟩ ⟨"KnowHouse$ProofChecker$Plain", "premises", "()I"⟩ s := (h A s H g).2.2.2.2.2.2.2.2.2.2.2.2.2.2.2.2.2.2.2.2.2.2.2.1
theorem kEPC_24 {G : kGt} {sa : Nat → Nat} {so : kSo} (h : kEPC G sa so) {A : Nat → Prop} {s : State} {H : Heap} (g : G A s H) : va_Fw "KnowHouse$ProofChecker$End" ⟨"KnowHouse$ProofChecker$Rule", "premises", "()I"⟩ ⟨"KnowHouse$ProofChecker$Plain", "premises", "()I"⟩ s := (h A s H g).2.2.2.2.2.2.2.2.2.2.2.2.2.2.2.2.2.2.2.2.2.2.2.2.1
theorem kEPC_25 {G : kGt} {sa : Nat → Nat} {so : kSo} (h : kEPC G sa so) {A : Nat → Prop} {s : State} {H : Heap} (g : G A s H) : va_Fw "KnowHouse$ProofChecker$Turn" ⟨"KnowHouse$ProofChecker$Rule", "premises", "()I"⟩ ⟨"KnowHouse$ProofChecker$Plain", "premises", "()I"⟩ s := (h A s H g).2.2.2.2.2.2.2.2.2.2.2.2.2.2.2.2.2.2.2.2.2.2.2.2.2.1
theorem kEPC_26 {G : kGt} {sa : Nat → Nat} {so : kSo} (h : kEPC G sa so) {A : Nat → Prop} {s : State} {H : Heap} (g : G A s H) : va_Fw "KnowHouse$ProofChecker$Through" ⟨"KnowHouse$ProofChecker$Rule", "premises", "()I"⟩ ⟨"KnowHouse$ProofChecker$Plain", "premises", "()I"⟩ s := (h A s H g).2.2.2.2.2.2.2.2.2.2.2.2.2.2.2.2.2.2.2.2.2.2.2.2.2.2.1
theorem kEPC_27 {G : kGt} {sa : Nat → Nat} {so : kSo} (h : kEPC G sa so) {A : Nat → Prop} {s : State} {H : Heap} (g : G A s H) : va_Fw "KnowHouse$ProofChecker$Swap" ⟨"KnowHouse$ProofChecker$Rule", "premises", "()I"⟩ ⟨"KnowHouse$ProofChecker$Plain", "premises", "()I"⟩ s := (h A s H g).2.2.2.2.2.2.2.2.2.2.2.2.2.2.2.2.2.2.2.2.2.2.2.2.2.2.2.1
theorem kEPC_28 {G : kGt} {sa : Nat → Nat} {so : kSo} (h : kEPC G sa so) {A : Nat → Prop} {s : State} {H : Heap} (g : G A s H) : va_Fw "KnowHouse$ProofChecker$Equal" ⟨"KnowHouse$ProofChecker$Rule", "premises", "()I"⟩ ⟨"KnowHouse$ProofChecker$Plain", "premises", "()I"⟩ s := (h A s H g).2.2.2.2.2.2.2.2.2.2.2.2.2.2.2.2.2.2.2.2.2.2.2.2.2.2.2.2.1
theorem kEPC_29 {G : kGt} {sa : Nat → Nat} {so : kSo} (h : kEPC G sa so) {A : Nat → Prop} {s : State} {H : Heap} (g : G A s H) : va_Fw "KnowHouse$ProofChecker$One" ⟨"KnowHouse$ProofChecker$Rule", "premises", "()I"⟩ ⟨"KnowHouse$ProofChecker$Plain", "premises", "()I"⟩ s := (h A s H g).2.2.2.2.2.2.2.2.2.2.2.2.2.2.2.2.2.2.2.2.2.2.2.2.2.2.2.2.2.1
theorem kEPC_30 {G : kGt} {sa : Nat → Nat} {so : kSo} (h : kEPC G sa so) {A : Nat → Prop} {s : State} {H : Heap} (g : G A s H) : va_Fw "KnowHouse$ProofChecker$Apart" ⟨"KnowHouse$ProofChecker$Rule", "premises", "()I"⟩ ⟨"KnowHouse$ProofChecker$Plain", "premises", "()I"⟩ s := (h A s H g).2.2.2.2.2.2.2.2.2.2.2.2.2.2.2.2.2.2.2.2.2.2.2.2.2.2.2.2.2.2.1
theorem kEPC_31 {G : kGt} {sa : Nat → Nat} {so : kSo} (h : kEPC G sa so) {A : Nat → Prop} {s : State} {H : Heap} (g : G A s H) : va_Fw "KnowHouse$ProofChecker$Not" ⟨"KnowHouse$ProofChecker$Rule", "premises", "()I"⟩ ⟨"KnowHouse$ProofChecker$Plain", "premises", "()I"⟩ s := (h A s H g).2.2.2.2.2.2.2.2.2.2.2.2.2.2.2.2.2.2.2.2.2.2.2.2.2.2.2.2.2.2.2.1
theorem kEPC_32 {G : kGt} {sa : Nat → Nat} {so : kSo} (h : kEPC G sa so) {A : Nat → Prop} {s : State} {H : Heap} (g : G A s H) : va_Fw "KnowHouse$ProofChecker$Axiom" ⟨"KnowHouse$ProofChecker$Rule", "give", "(LKnowHouse$ProofChecker;I[LKnowHouse$ProofChecker$Statement;LKnowHouse$ProofChecker$Statement;)Z"⟩ ⟨"KnowHouse$ProofChecker$Axiom", "give", "(LKnowHouse$ProofChecker;I[LKnowHouse$ProofChecker$Statement;LKnowHouse$ProofChecker$Statement;)Z"⟩ s := (h A s H g).2.2.2.2.2.2.2.2.2.2.2.2.2.2.2.2.2.2.2.2.2.2.2.2.2.2.2.2.2.2.2.2.1
theorem kEPC_33 {G : kGt} {sa : Nat → Nat} {so : kSo} (h : kEPC G sa so) {A : Nat → Prop} {s : State} {H : Heap} (g : G A s H) : va_Fw "KnowHouse$ProofChecker$Given" ⟨"KnowHouse$ProofChecker$Rule", "give", "(LKnowHouse$ProofChecker;I[LKnowHouse$ProofChecker$Statement;LKnowHouse$ProofChecker$Statement;)Z"⟩ ⟨"KnowHouse$ProofChecker$Given", "give", "(LKnowHouse$ProofChecker;I[LKnowHouse$ProofChecker$Statement;LKnowHouse$ProofChecker$Statement;)Z"⟩ s := (h A s H g).2.2.2.2.2.2.2.2.2.2.2.2.2.2.2.2.2.2.2.2.2.2.2.2.2.2.2.2.2.2.2.2.2.1
theorem kEPC_34 {G : kGt} {sa : Nat → Nat} {so : kSo} (h : kEPC G sa so) {A : Nat → Prop} {s : State} {H : Heap} (g : G A s H) : va_Fw "KnowHouse$ProofChecker$Itself" ⟨"KnowHouse$ProofChecker$Rule", "give", "(LKnowHouse$ProofChecker;I[LKnowHouse$ProofChecker$Statement;LKnowHouse$ProofChecker$Statement;)Z"⟩ ⟨"KnowHouse$ProofChecker$Itself", "give", "(LKnowHouse$ProofChecker;I[LKnowHouse$ProofChecker$Statement;LKnowHouse$ProofChecker$Statement;)Z"⟩ s := (h A s H g).2.2.2.2.2.2.2.2.2.2.2.2.2.2.2.2.2.2.2.2.2.2.2.2.2.2.2.2.2.2.2.2.2.2.1
theorem kEPC_35 {G : kGt} {sa : Nat → Nat} {so : kSo} (h : kEPC G sa so) {A : Nat → Prop} {s : State} {H : Heap} (g : G A s H) : va_Fw "KnowHouse$ProofChecker$Chain" ⟨"KnowHouse$ProofChecker$Rule", "give", "(LKnowHouse$ProofChecker;I[LKnowHouse$ProofChecker$Statement;LKnowHouse$ProofChecker$Statement;)Z"⟩ ⟨"KnowHouse$ProofChecker$Chain", "give", "(LKnowHouse$ProofChecker;I[LKnowHouse$ProofChecker$Statement;LKnowHouse$ProofChecker$Statement;)Z"⟩ s := (h A s H g).2.2.2.2.2.2.2.2.2.2.2.2.2.2.2.2.2.2.2.2.2.2.2.2.2.2.2.2.2.2.2.2.2.2.2.1
theorem kEPC_36 {G : kGt} {sa : Nat → Nat} {so : kSo} (h : kEPC G sa so) {A : Nat → Prop} {s : State} {H : Heap} (g : G A s H) : va_Fw "KnowHouse$ProofChecker$ClassRule" ⟨"KnowHouse$ProofChecker$Rule", "give", "(LKnowHouse$ProofChecker;I[LKnowHouse$ProofChecker$Statement;LKnowHouse$ProofChecker$Statement;)Z"⟩ ⟨"KnowHouse$ProofChecker$ClassRule", "give", "(LKnowHouse$ProofChecker;I[LKnowHouse$ProofChecker$Statement;LKnowHouse$ProofChecker$Statement;)Z"⟩ s := (h A s H g).2.2.2.2.2.2.2.2.2.2.2.2.2.2.2.2.2.2.2.2.2.2.2.2.2.2.2.2.2.2.2.2.2.2.2.2.1
theorem kEPC_37 {G : kGt} {sa : Nat → Nat} {so : kSo} (h : kEPC G sa so) {A : Nat → Prop} {s : State} {H : Heap} (g : G A s H) : va_Fw "KnowHouse$ProofChecker$Property" ⟨"KnowHouse$ProofChecker$Rule", "give", "(LKnowHouse$ProofChecker;I[LKnowHouse$ProofChecker$Statement;LKnowHouse$ProofChecker$Statement;)Z"⟩ ⟨"KnowHouse$ProofChecker$OfProperty", "give", "(LKnowHouse$ProofChecker;I[LKnowHouse$ProofChecker$Statement;LKnowHouse$ProofChecker$Statement;)Z"⟩ s := (h A s H g).2.2.2.2.2.2.2.2.2.2.2.2.2.2.2.2.2.2.2.2.2.2.2.2.2.2.2.2.2.2.2.2.2.2.2.2.2.1
theorem kEPC_38 {G : kGt} {sa : Nat → Nat} {so : kSo} (h : kEPC G sa so) {A : Nat → Prop} {s : State} {H : Heap} (g : G A s H) : va_Fw "KnowHouse$ProofChecker$End" ⟨"KnowHouse$ProofChecker$Rule", "give", "(LKnowHouse$ProofChecker;I[LKnowHouse$ProofChecker$Statement;LKnowHouse$ProofChecker$Statement;)Z"⟩ ⟨"KnowHouse$ProofChecker$OfProperty", "give", "(LKnowHouse$ProofChecker;I[LKnowHouse$ProofChecker$Statement;LKnowHouse$ProofChecker$Statement;)Z"⟩ s := (h A s H g).2.2.2.2.2.2.2.2.2.2.2.2.2.2.2.2.2.2.2.2.2.2.2.2.2.2.2.2.2.2.2.2.2.2.2.2.2.2.1
theorem kEPC_39 {G : kGt} {sa : Nat → Nat} {so : kSo} (h : kEPC G sa so) {A : Nat → Prop} {s : State} {H : Heap} (g : G A s H) : va_Fw "KnowHouse$ProofChecker$Turn" ⟨"KnowHouse$ProofChecker$Rule", "give", "(LKnowHouse$ProofChecker;I[LKnowHouse$ProofChecker$Statement;LKnowHouse$ProofChecker$Statement;)Z"⟩ ⟨"KnowHouse$ProofChecker$OfProperty", "give", "(LKnowHouse$ProofChecker;I[LKnowHouse$ProofChecker$Statement;LKnowHouse$ProofChecker$Statement;)Z"⟩ s := (h A s H g).2.2.2.2.2.2.2.2.2.2.2.2.2.2.2.2.2.2.2.2.2.2.2.2.2.2.2.2.2.2.2.2.2.2.2.2.2.2.2.1
theorem kEPC_40 {G : kGt} {sa : Nat → Nat} {so : kSo} (h : kEPC G sa so) {A : Nat → Prop} {s : State} {H : Heap} (g : G A s H) : va_Fw "KnowHouse$ProofChecker$Through" ⟨"KnowHouse$ProofChecker$Rule", "give", "(LKnowHouse$ProofChecker;I[LKnowHouse$ProofChecker$Statement;LKnowHouse$ProofChecker$Statement;)Z"⟩ ⟨"KnowHouse$ProofChecker$OfProperty", "give", "(LKnowHouse$ProofChecker;I[LKnowHouse$ProofChecker$Statement;LKnowHouse$ProofChecker$Statement;)Z"⟩ s := (h A s H g).2.2.2.2.2.2.2.2.2.2.2.2.2.2.2.2.2.2.2.2.2.2.2.2.2.2.2.2.2.2.2.2.2.2.2.2.2.2.2.2.1
theorem kEPC_41 {G : kGt} {sa : Nat → Nat} {so : kSo} (h : kEPC G sa so) {A : Nat → Prop} {s : State} {H : Heap} (g : G A s H) : va_Fw "KnowHouse$ProofChecker$Swap" ⟨"KnowHouse$ProofChecker$Rule", "give", "(LKnowHouse$ProofChecker;I[LKnowHouse$ProofChecker$Statement;LKnowHouse$ProofChecker$Statement;)Z"⟩ ⟨"KnowHouse$ProofChecker$Swap", "give", "(LKnowHouse$ProofChecker;I[LKnowHouse$ProofChecker$Statement;LKnowHouse$ProofChecker$Statement;)Z"⟩ s := (h A s H g).2.2.2.2.2.2.2.2.2.2.2.2.2.2.2.2.2.2.2.2.2.2.2.2.2.2.2.2.2.2.2.2.2.2.2.2.2.2.2.2.2.1
theorem kEPC_42 {G : kGt} {sa : Nat → Nat} {so : kSo} (h : kEPC G sa so) {A : Nat → Prop} {s : State} {H : Heap} (g : G A s H) : va_Fw "KnowHouse$ProofChecker$Equal" ⟨"KnowHouse$ProofChecker$Rule", "give", "(LKnowHouse$ProofChecker;I[LKnowHouse$ProofChecker$Statement;LKnowHouse$ProofChecker$Statement;)Z"⟩ ⟨"KnowHouse$ProofChecker$Equal", "give", "(LKnowHouse$ProofChecker;I[LKnowHouse$ProofChecker$Statement;LKnowHouse$ProofChecker$Statement;)Z"⟩ s := (h A s H g).2.2.2.2.2.2.2.2.2.2.2.2.2.2.2.2.2.2.2.2.2.2.2.2.2.2.2.2.2.2.2.2.2.2.2.2.2.2.2.2.2.2.1
theorem kEPC_43 {G : kGt} {sa : Nat → Nat} {so : kSo} (h : kEPC G sa so) {A : Nat → Prop} {s : State} {H : Heap} (g : G A s H) : va_Fw "KnowHouse$ProofChecker$One" ⟨"KnowHouse$ProofChecker$Rule", "give", "(LKnowHouse$ProofChecker;I[LKnowHouse$ProofChecker$Statement;LKnowHouse$ProofChecker$Statement;)Z"⟩ ⟨"KnowHouse$ProofChecker$OfProperty", "give", "(LKnowHouse$ProofChecker;I[LKnowHouse$ProofChecker$Statement;LKnowHouse$ProofChecker$Statement;)Z"⟩ s := (h A s H g).2.2.2.2.2.2.2.2.2.2.2.2.2.2.2.2.2.2.2.2.2.2.2.2.2.2.2.2.2.2.2.2.2.2.2.2.2.2.2.2.2.2.2.1
theorem kEPC_44 {G : kGt} {sa : Nat → Nat} {so : kSo} (h : kEPC G sa so) {A : Nat → Prop} {s : State} {H : Heap} (g : G A s H) : va_Fw "KnowHouse$ProofChecker$Apart" ⟨"KnowHouse$ProofChecker$Rule", "give", "(LKnowHouse$ProofChecker;I[LKnowHouse$ProofChecker$Statement;LKnowHouse$ProofChecker$Statement;)Z"⟩ ⟨"KnowHouse$ProofChecker$Apart", "give", "(LKnowHouse$ProofChecker;I[LKnowHouse$ProofChecker$Statement;LKnowHouse$ProofChecker$Statement;)Z"⟩ s := (h A s H g).2.2.2.2.2.2.2.2.2.2.2.2.2.2.2.2.2.2.2.2.2.2.2.2.2.2.2.2.2.2.2.2.2.2.2.2.2.2.2.2.2.2.2.2.1
theorem kEPC_45 {G : kGt} {sa : Nat → Nat} {so : kSo} (h : kEPC G sa so) {A : Nat → Prop} {s : State} {H : Heap} (g : G A s H) : va_Fw "KnowHouse$ProofChecker$Not" ⟨"KnowHouse$ProofChecker$Rule", "give", "(LKnowHouse$ProofChecker;I[LKnowHouse$ProofChecker$Statement;LKnowHouse$ProofChecker$Statement;)Z"⟩ ⟨"KnowHouse$ProofChecker$Not", "give", "(LKnowHouse$ProofChecker;I[LKnowHouse$ProofChecker$Statement;LKnowHouse$ProofChecker$Statement;)Z"⟩ s := (h A s H g).2.2.2.2.2.2.2.2.2.2.2.2.2.2.2.2.2.2.2.2.2.2.2.2.2.2.2.2.2.2.2.2.2.2.2.2.2.2.2.2.2.2.2.2.2.1
theorem kEPC_46 {G : kGt} {sa : Nat → Nat} {so : kSo} (h : kEPC G sa so) {A : Nat → Prop} {s : State} {H : Heap} (g : G A s H) : va_Z "java/lang/String" "COMPACT_STRINGS" "Z" (.int 1) A s H := (h A s H g).2.2.2.2.2.2.2.2.2.2.2.2.2.2.2.2.2.2.2.2.2.2.2.2.2.2.2.2.2.2.2.2.2.2.2.2.2.2.2.2.2.2.2.2.2.2.1
theorem kEPC_47 {G : kGt} {sa : Nat → Nat} {so : kSo} (h : kEPC G sa so) {A : Nat → Prop} {s : State} {H : Heap} (g : G A s H) : kSf so A s H := (h A s H g).2.2.2.2.2.2.2.2.2.2.2.2.2.2.2.2.2.2.2.2.2.2.2.2.2.2.2.2.2.2.2.2.2.2.2.2.2.2.2.2.2.2.2.2.2.2.2.1
theorem kEPC_48 {G : kGt} {sa : Nat → Nat} {so : kSo} (h : kEPC G sa so) {A : Nat → Prop} {s : State} {H : Heap} (g : G A s H) : va_Z "jdk/internal/util/Preconditions" "SIOOBE_FORMATTER" "Ljava/util/function/BiFunction;" (.ref (sa 11)) A s H := (h A s H g).2.2.2.2.2.2.2.2.2.2.2.2.2.2.2.2.2.2.2.2.2.2.2.2.2.2.2.2.2.2.2.2.2.2.2.2.2.2.2.2.2.2.2.2.2.2.2.2.1
theorem kEPC_49 {G : kGt} {sa : Nat → Nat} {so : kSo} (h : kEPC G sa so) {A : Nat → Prop} {s : State} {H : Heap} (g : G A s H) : vk_R "KnowHouse$ProofChecker" 227 "class A is below class B" (sa 269) s := (h A s H g).2.2.2.2.2.2.2.2.2.2.2.2.2.2.2.2.2.2.2.2.2.2.2.2.2.2.2.2.2.2.2.2.2.2.2.2.2.2.2.2.2.2.2.2.2.2.2.2.2.1
theorem kEPC_50 {G : kGt} {sa : Nat → Nat} {so : kSo} (h : kEPC G sa so) {A : Nat → Prop} {s : State} {H : Heap} (g : G A s H) : vk_R "KnowHouse$ProofChecker" 229 "A is below B" (sa 270) s := (h A s H g).2.2.2.2.2.2.2.2.2.2.2.2.2.2.2.2.2.2.2.2.2.2.2.2.2.2.2.2.2.2.2.2.2.2.2.2.2.2.2.2.2.2.2.2.2.2.2.2.2.2.1
theorem kEPC_51 {G : kGt} {sa : Nat → Nat} {so : kSo} (h : kEPC G sa so) {A : Nat → Prop} {s : State} {H : Heap} (g : G A s H) : vk_R "KnowHouse$ProofChecker" 231 "what A begins at is class B" (sa 271) s := (h A s H g).2.2.2.2.2.2.2.2.2.2.2.2.2.2.2.2.2.2.2.2.2.2.2.2.2.2.2.2.2.2.2.2.2.2.2.2.2.2.2.2.2.2.2.2.2.2.2.2.2.2.2.1
theorem kEPC_52 {G : kGt} {sa : Nat → Nat} {so : kSo} (h : kEPC G sa so) {A : Nat → Prop} {s : State} {H : Heap} (g : G A s H) : vk_R "KnowHouse$ProofChecker" 233 "what A leads to is class B" (sa 272) s := (h A s H g).2.2.2.2.2.2.2.2.2.2.2.2.2.2.2.2.2.2.2.2.2.2.2.2.2.2.2.2.2.2.2.2.2.2.2.2.2.2.2.2.2.2.2.2.2.2.2.2.2.2.2.2.1
theorem kEPC_53 {G : kGt} {sa : Nat → Nat} {so : kSo} (h : kEPC G sa so) {A : Nat → Prop} {s : State} {H : Heap} (g : G A s H) : vk_R "KnowHouse$ProofChecker" 235 "class A and class B have nothing in common" (sa 273) s := (h A s H g).2.2.2.2.2.2.2.2.2.2.2.2.2.2.2.2.2.2.2.2.2.2.2.2.2.2.2.2.2.2.2.2.2.2.2.2.2.2.2.2.2.2.2.2.2.2.2.2.2.2.2.2.2.1
theorem kEPC_54 {G : kGt} {sa : Nat → Nat} {so : kSo} (h : kEPC G sa so) {A : Nat → Prop} {s : State} {H : Heap} (g : G A s H) : vk_R "KnowHouse$ProofChecker" 237 "A goes through" (sa 274) s := (h A s H g).2.2.2.2.2.2.2.2.2.2.2.2.2.2.2.2.2.2.2.2.2.2.2.2.2.2.2.2.2.2.2.2.2.2.2.2.2.2.2.2.2.2.2.2.2.2.2.2.2.2.2.2.2.2.1
theorem kEPC_55 {G : kGt} {sa : Nat → Nat} {so : kSo} (h : kEPC G sa so) {A : Nat → Prop} {s : State} {H : Heap} (g : G A s H) : vk_R "KnowHouse$ProofChecker" 239 "A goes either way" (sa 275) s := (h A s H g).2.2.2.2.2.2.2.2.2.2.2.2.2.2.2.2.2.2.2.2.2.2.2.2.2.2.2.2.2.2.2.2.2.2.2.2.2.2.2.2.2.2.2.2.2.2.2.2.2.2.2.2.2.2.2.1
theorem kEPC_56 {G : kGt} {sa : Nat → Nat} {so : kSo} (h : kEPC G sa so) {A : Nat → Prop} {s : State} {H : Heap} (g : G A s H) : vk_R "KnowHouse$ProofChecker" 241 "A is B the other way" (sa 276) s := (h A s H g).2.2.2.2.2.2.2.2.2.2.2.2.2.2.2.2.2.2.2.2.2.2.2.2.2.2.2.2.2.2.2.2.2.2.2.2.2.2.2.2.2.2.2.2.2.2.2.2.2.2.2.2.2.2.2.2.1
theorem kEPC_57 {G : kGt} {sa : Nat → Nat} {so : kSo} (h : kEPC G sa so) {A : Nat → Prop} {s : State} {H : Heap} (g : G A s H) : vk_R "KnowHouse$ProofChecker" 243 "A leads to one" (sa 277) s := (h A s H g).2.2.2.2.2.2.2.2.2.2.2.2.2.2.2.2.2.2.2.2.2.2.2.2.2.2.2.2.2.2.2.2.2.2.2.2.2.2.2.2.2.2.2.2.2.2.2.2.2.2.2.2.2.2.2.2.2.1
theorem kEPC_58 {G : kGt} {sa : Nat → Nat} {so : kSo} (h : kEPC G sa so) {A : Nat → Prop} {s : State} {H : Heap} (g : G A s H) : vk_R "KnowHouse$ProofChecker" 245 "A is not B" (sa 278) s := (h A s H g).2.2.2.2.2.2.2.2.2.2.2.2.2.2.2.2.2.2.2.2.2.2.2.2.2.2.2.2.2.2.2.2.2.2.2.2.2.2.2.2.2.2.2.2.2.2.2.2.2.2.2.2.2.2.2.2.2.2.1
theorem kEPC_59 {G : kGt} {sa : Nat → Nat} {so : kSo} (h : kEPC G sa so) {A : Nat → Prop} {s : State} {H : Heap} (g : G A s H) : vk_R "KnowHouse$ProofChecker" 249 "nothing" (sa 280) s := (h A s H g).2.2.2.2.2.2.2.2.2.2.2.2.2.2.2.2.2.2.2.2.2.2.2.2.2.2.2.2.2.2.2.2.2.2.2.2.2.2.2.2.2.2.2.2.2.2.2.2.2.2.2.2.2.2.2.2.2.2.2.1
theorem kEPC_60 {G : kGt} {sa : Nat → Nat} {so : kSo} (h : kEPC G sa so) {A : Nat → Prop} {s : State} {H : Heap} (g : G A s H) : vk_R "KnowHouse$ProofChecker" 247 "contradiction" (sa 279) s := (h A s H g).2.2.2.2.2.2.2.2.2.2.2.2.2.2.2.2.2.2.2.2.2.2.2.2.2.2.2.2.2.2.2.2.2.2.2.2.2.2.2.2.2.2.2.2.2.2.2.2.2.2.2.2.2.2.2.2.2.2.2.2.1
theorem kEPC_61 {G : kGt} {sa : Nat → Nat} {so : kSo} (h : kEPC G sa so) {A : Nat → Prop} {s : State} {H : Heap} (g : G A s H) : vk_R "KnowHouse$ProofChecker" 261 "A is B" (sa 282) s := (h A s H g).2.2.2.2.2.2.2.2.2.2.2.2.2.2.2.2.2.2.2.2.2.2.2.2.2.2.2.2.2.2.2.2.2.2.2.2.2.2.2.2.2.2.2.2.2.2.2.2.2.2.2.2.2.2.2.2.2.2.2.2.2.1
theorem kEPC_62 {G : kGt} {sa : Nat → Nat} {so : kSo} (h : kEPC G sa so) {A : Nat → Prop} {s : State} {H : Heap} (g : G A s H) : vk_R "KnowHouse$ProofChecker" 259 "A is class B" (sa 281) s := (h A s H g).2.2.2.2.2.2.2.2.2.2.2.2.2.2.2.2.2.2.2.2.2.2.2.2.2.2.2.2.2.2.2.2.2.2.2.2.2.2.2.2.2.2.2.2.2.2.2.2.2.2.2.2.2.2.2.2.2.2.2.2.2.2.1
theorem kEPC_63 {G : kGt} {sa : Nat → Nat} {so : kSo} (h : kEPC G sa so) {A : Nat → Prop} {s : State} {H : Heap} (g : G A s H) : vk_R "KnowHouse$ProofChecker" 263 "A B " (sa 283) s := (h A s H g).2.2.2.2.2.2.2.2.2.2.2.2.2.2.2.2.2.2.2.2.2.2.2.2.2.2.2.2.2.2.2.2.2.2.2.2.2.2.2.2.2.2.2.2.2.2.2.2.2.2.2.2.2.2.2.2.2.2.2.2.2.2.2.1
theorem kEPC_64 {G : kGt} {sa : Nat → Nat} {so : kSo} (h : kEPC G sa so) {A : Nat → Prop} {s : State} {H : Heap} (g : G A s H) : vk_R "KnowHouse$ProofChecker" 265 ". " (sa 284) s := (h A s H g).2.2.2.2.2.2.2.2.2.2.2.2.2.2.2.2.2.2.2.2.2.2.2.2.2.2.2.2.2.2.2.2.2.2.2.2.2.2.2.2.2.2.2.2.2.2.2.2.2.2.2.2.2.2.2.2.2.2.2.2.2.2.2.2.1
theorem kEPC_65 {G : kGt} {sa : Nat → Nat} {so : kSo} (h : kEPC G sa so) {A : Nat → Prop} {s : State} {H : Heap} (g : G A s H) : vk_R "KnowHouse$ProofChecker" 274 ", by " (sa 285) s := (h A s H g).2.2.2.2.2.2.2.2.2.2.2.2.2.2.2.2.2.2.2.2.2.2.2.2.2.2.2.2.2.2.2.2.2.2.2.2.2.2.2.2.2.2.2.2.2.2.2.2.2.2.2.2.2.2.2.2.2.2.2.2.2.2.2.2.2.1
theorem kEPC_66 {G : kGt} {sa : Nat → Nat} {so : kSo} (h : kEPC G sa so) {A : Nat → Prop} {s : State} {H : Heap} (g : G A s H) : va_Fw "KnowHouse$ProofChecker$Axiom" ⟨"KnowHouse$ProofChecker$Rule", "word", "()Ljava/lang/String;"⟩ ⟨"KnowHouse$ProofChecker$Plain", "word", "()Ljava/lang/String;"⟩ s := (h A s H g).2.2.2.2.2.2.2.2.2.2.2.2.2.2.2.2.2.2.2.2.2.2.2.2.2.2.2.2.2.2.2.2.2.2.2.2.2.2.2.2.2.2.2.2.2.2.2.2.2.2.2.2.2.2.2.2.2.2.2.2.2.2.2.2.2.2.1
theorem kEPC_67 {G : kGt} {sa : Nat → Nat} {so : kSo} (h : kEPC G sa so) {A : Nat → Prop} {s : State} {H : Heap} (g : G A s H) : va_Fw "KnowHouse$ProofChecker$Given" ⟨"KnowHouse$ProofChecker$Rule", "word", "()Ljava/lang/String;"⟩ ⟨"KnowHouse$ProofChecker$Plain", "word", "()Ljava/lang/String;"⟩ s := (h A s H g).2.2.2.2.2.2.2.2.2.2.2.2.2.2.2.2.2.2.2.2.2.2.2.2.2.2.2.2.2.2.2.2.2.2.2.2.2.2.2.2.2.2.2.2.2.2.2.2.2.2.2.2.2.2.2.2.2.2.2.2.2.2.2.2.2.2.2.1
theorem kEPC_68 {G : kGt} {sa : Nat → Nat} {so : kSo} (h : kEPC G sa so) {A : Nat → Prop} {s : State} {H : Heap} (g : G A s H) : va_Fw "KnowHouse$ProofChecker$Itself" ⟨"KnowHouse$ProofChecker$Rule", "word", "()Ljava/lang/String;"⟩ ⟨"KnowHouse$ProofChecker$Plain", "word", "()Ljava/lang/String;"⟩ s := (h A s H g).2.2.2.2.2.2.2.2.2.2.2.2.2.2.2.2.2.2.2.2.2.2.2.2.2.2.2.2.2.2.2.2.2.2.2.2.2.2.2.2.2.2.2.2.2.2.2.2.2.2.2.2.2.2.2.2.2.2.2.2.2.2.2.2.2.2.2.2.1
theorem kEPC_69 {G : kGt} {sa : Nat → Nat} {so : kSo} (h : kEPC G sa so) {A : Nat → Prop} {s : State} {H : Heap} (g : G A s H) : va_Fw "KnowHouse$ProofChecker$Chain" ⟨"KnowHouse$ProofChecker$Rule", "word", "()Ljava/lang/String;"⟩ ⟨"KnowHouse$ProofChecker$Plain", "word", "()Ljava/lang/String;"⟩ s := (h A s H g).2.2.2.2.2.2.2.2.2.2.2.2.2.2.2.2.2.2.2.2.2.2.2.2.2.2.2.2.2.2.2.2.2.2.2.2.2.2.2.2.2.2.2.2.2.2.2.2.2.2.2.2.2.2.2.2.2.2.2.2.2.2.2.2.2.2.2.2.2.1
theorem kEPC_70 {G : kGt} {sa : Nat → Nat} {so : kSo} (h : kEPC G sa so) {A : Nat → Prop} {s : State} {H : Heap} (g : G A s H) : va_Fw "KnowHouse$ProofChecker$ClassRule" ⟨"KnowHouse$ProofChecker$Rule", "word", "()Ljava/lang/String;"⟩ ⟨"KnowHouse$ProofChecker$Plain", "word", "()Ljava/lang/String;"⟩ s := (h A s H g).2.2.2.2.2.2.2.2.2.2.2.2.2.2.2.2.2.2.2.2.2.2.2.2.2.2.2.2.2.2.2.2.2.2.2.2.2.2.2.2.2.2.2.2.2.2.2.2.2.2.2.2.2.2.2.2.2.2.2.2.2.2.2.2.2.2.2.2.2.2.1
theorem kEPC_71 {G : kGt} {sa : Nat → Nat} {so : kSo} (h : kEPC G sa so) {A : Nat → Prop} {s : State} {H : Heap} (g : G A s H) : va_Fw "KnowHouse$ProofChecker$Property" ⟨"KnowHouse$ProofChecker$Rule", "word", "()Ljava/lang/String;"⟩ ⟨"KnowHouse$ProofChecker$Plain", "word", "()Ljava/lang/String;"⟩ s := (h A s H g).2.2.2.2.2.2.2.2.2.2.2.2.2.2.2.2.2.2.2.2.2.2.2.2.2.2.2.2.2.2.2.2.2.2.2.2.2.2.2.2.2.2.2.2.2.2.2.2.2.2.2.2.2.2.2.2.2.2.2.2.2.2.2.2.2.2.2.2.2.2.2.1
theorem kEPC_72 {G : kGt} {sa : Nat → Nat} {so : kSo} (h : kEPC G sa so) {A : Nat → Prop} {s : State} {H : Heap} (g : G A s H) : va_Fw "KnowHouse$ProofChecker$End" ⟨"KnowHouse$ProofChecker$Rule", "word", "()Ljava/lang/String;"⟩ ⟨"KnowHouse$ProofChecker$Plain", "word", "()Ljava/lang/String;"⟩ s := (h A s H g).2.2.2.2.2.2.2.2.2.2.2.2.2.2.2.2.2.2.2.2.2.2.2.2.2.2.2.2.2.2.2.2.2.2.2.2.2.2.2.2.2.2.2.2.2.2.2.2.2.2.2.2.2.2.2.2.2.2.2.2.2.2.2.2.2.2.2.2.2.2.2.2.1
theorem kEPC_73 {G : kGt} {sa : Nat → Nat} {so : kSo} (h : kEPC G sa so) {A : Nat → Prop} {s : State} {H : Heap} (g : G A s H) : va_Fw "KnowHouse$ProofChecker$Turn" ⟨"KnowHouse$ProofChecker$Rule", "word", "()Ljava/lang/String;"⟩ ⟨"KnowHouse$ProofChecker$Plain", "word", "()Ljava/lang/String;"⟩ s := (h A s H g).2.2.2.2.2.2.2.2.2.2.2.2.2.2.2.2.2.2.2.2.2.2.2.2.2.2.2.2.2.2.2.2.2.2.2.2.2.2.2.2.2.2.2.2.2.2.2.2.2.2.2.2.2.2.2.2.2.2.2.2.2.2.2.2.2.2.2.2.2.2.2.2.2.1
theorem kEPC_74 {G : kGt} {sa : Nat → Nat} {so : kSo} (h : kEPC G sa so) {A : Nat → Prop} {s : State} {H : Heap} (g : G A s H) : va_Fw "KnowHouse$ProofChecker$Through" ⟨"KnowHouse$ProofChecker$Rule", "word", "()Ljava/lang/String;"⟩ ⟨"KnowHouse$ProofChecker$Plain", "word", "()Ljava/lang/String;"⟩ s := (h A s H g).2.2.2.2.2.2.2.2.2.2.2.2.2.2.2.2.2.2.2.2.2.2.2.2.2.2.2.2.2.2.2.2.2.2.2.2.2.2.2.2.2.2.2.2.2.2.2.2.2.2.2.2.2.2.2.2.2.2.2.2.2.2.2.2.2.2.2.2.2.2.2.2.2.2.1
theorem kEPC_75 {G : kGt} {sa : Nat → Nat} {so : kSo} (h : kEPC G sa so) {A : Nat → Prop} {s : State} {H : Heap} (g : G A s H) : va_Fw "KnowHouse$ProofChecker$Swap" ⟨"KnowHouse$ProofChecker$Rule", "word", "()Ljava/lang/String;"⟩ ⟨"KnowHouse$ProofChecker$Plain", "word", "()Ljava/lang/String;"⟩ s := (h A s H g).2.2.2.2.2.2.2.2.2.2.2.2.2.2.2.2.2.2.2.2.2.2.2.2.2.2.2.2.2.2.2.2.2.2.2.2.2.2.2.2.2.2.2.2.2.2.2.2.2.2.2.2.2.2.2.2.2.2.2.2.2.2.2.2.2.2.2.2.2.2.2.2.2.2.2.1
theorem kEPC_76 {G : kGt} {sa : Nat → Nat} {so : kSo} (h : kEPC G sa so) {A : Nat → Prop} {s : State} {H : Heap} (g : G A s H) : va_Fw "KnowHouse$ProofChecker$Equal" ⟨"KnowHouse$ProofChecker$Rule", "word", "()Ljava/lang/String;"⟩ ⟨"KnowHouse$ProofChecker$Plain", "word", "()Ljava/lang/String;"⟩ s := (h A s H g).2.2.2.2.2.2.2.2.2.2.2.2.2.2.2.2.2.2.2.2.2.2.2.2.2.2.2.2.2.2.2.2.2.2.2.2.2.2.2.2.2.2.2.2.2.2.2.2.2.2.2.2.2.2.2.2.2.2.2.2.2.2.2.2.2.2.2.2.2.2.2.2.2.2.2.2.1
theorem kEPC_77 {G : kGt} {sa : Nat → Nat} {so : kSo} (h : kEPC G sa so) {A : Nat → Prop} {s : State} {H : Heap} (g : G A s H) : va_Fw "KnowHouse$ProofChecker$One" ⟨"KnowHouse$ProofChecker$Rule", "word", "()Ljava/lang/String;"⟩ ⟨"KnowHouse$ProofChecker$Plain", "word", "()Ljava/lang/String;"⟩ s := (h A s H g).2.2.2.2.2.2.2.2.2.2.2.2.2.2.2.2.2.2.2.2.2.2.2.2.2.2.2.2.2.2.2.2.2.2.2.2.2.2.2.2.2.2.2.2.2.2.2.2.2.2.2.2.2.2.2.2.2.2.2.2.2.2.2.2.2.2.2.2.2.2.2.2.2.2.2.2.2.1
theorem kEPC_78 {G : kGt} {sa : Nat → Nat} {so : kSo} (h : kEPC G sa so) {A : Nat → Prop} {s : State} {H : Heap} (g : G A s H) : va_Fw "KnowHouse$ProofChecker$Apart" ⟨"KnowHouse$ProofChecker$Rule", "word", "()Ljava/lang/String;"⟩ ⟨"KnowHouse$ProofChecker$Plain", "word", "()Ljava/lang/String;"⟩ s := (h A s H g).2.2.2.2.2.2.2.2.2.2.2.2.2.2.2.2.2.2.2.2.2.2.2.2.2.2.2.2.2.2.2.2.2.2.2.2.2.2.2.2.2.2.2.2.2.2.2.2.2.2.2.2.2.2.2.2.2.2.2.2.2.2.2.2.2.2.2.2.2.2.2.2.2.2.2.2.2.2.1
theorem kEPC_79 {G : kGt} {sa : Nat → Nat} {so : kSo} (h : kEPC G sa so) {A : Nat → Prop} {s : State} {H : Heap} (g : G A s H) : va_Fw "KnowHouse$ProofChecker$Not" ⟨"KnowHouse$ProofChecker$Rule", "word", "()Ljava/lang/String;"⟩ ⟨"KnowHouse$ProofChecker$Plain", "word", "()Ljava/lang/String;"⟩ s := (h A s H g).2.2.2.2.2.2.2.2.2.2.2.2.2.2.2.2.2.2.2.2.2.2.2.2.2.2.2.2.2.2.2.2.2.2.2.2.2.2.2.2.2.2.2.2.2.2.2.2.2.2.2.2.2.2.2.2.2.2.2.2.2.2.2.2.2.2.2.2.2.2.2.2.2.2.2.2.2.2.2.1
theorem kEPC_80 {G : kGt} {sa : Nat → Nat} {so : kSo} (h : kEPC G sa so) {A : Nat → Prop} {s : State} {H : Heap} (g : G A s H) : vk_R "KnowHouse$ProofChecker" 282 " and " (sa 287) s := (h A s H g).2.2.2.2.2.2.2.2.2.2.2.2.2.2.2.2.2.2.2.2.2.2.2.2.2.2.2.2.2.2.2.2.2.2.2.2.2.2.2.2.2.2.2.2.2.2.2.2.2.2.2.2.2.2.2.2.2.2.2.2.2.2.2.2.2.2.2.2.2.2.2.2.2.2.2.2.2.2.2.2.1
theorem kEPC_81 {G : kGt} {sa : Nat → Nat} {so : kSo} (h : kEPC G sa so) {A : Nat → Prop} {s : State} {H : Heap} (g : G A s H) : vk_R "KnowHouse$ProofChecker" 280 " from " (sa 286) s := (h A s H g).2.2.2.2.2.2.2.2.2.2.2.2.2.2.2.2.2.2.2.2.2.2.2.2.2.2.2.2.2.2.2.2.2.2.2.2.2.2.2.2.2.2.2.2.2.2.2.2.2.2.2.2.2.2.2.2.2.2.2.2.2.2.2.2.2.2.2.2.2.2.2.2.2.2.2.2.2.2.2.2.2.1
theorem kEPC_82 {G : kGt} {sa : Nat → Nat} {so : kSo} (h : kEPC G sa so) {A : Nat → Prop} {s : State} {H : Heap} (g : G A s H) : vk_R "KnowHouse$ProofChecker" 284 "." (sa 288) s := (h A s H g).2.2.2.2.2.2.2.2.2.2.2.2.2.2.2.2.2.2.2.2.2.2.2.2.2.2.2.2.2.2.2.2.2.2.2.2.2.2.2.2.2.2.2.2.2.2.2.2.2.2.2.2.2.2.2.2.2.2.2.2.2.2.2.2.2.2.2.2.2.2.2.2.2.2.2.2.2.2.2.2.2.2.1
def cPC (ci : Nat → Nat) (d : Nat → ClassId) (kd : Nat → Nat) (an : Nat → Nat) (ai : Nat → Nat → Int32) (al : Nat → Nat → Int64) (ar : Nat → Nat → Option Nat) (mX8_rules : Nat → Option Nat) (mX8_axioms : Nat → Option Nat) (mX8_axiomCount : Nat → Int32) (mX8_givens : Nat → Option Nat) (mX8_givenCount : Nat → Int32) (mX8_wanted : Nat → Option Nat) (mX8_rows : Nat → Option Nat) (mX8_rowCount : Nat → Int32) (mX8_looked : Nat → Int32) (mX8_from : Nat → Option Nat) (mX8_needed : Nat → Option Nat) (mX8_broken : Nat → Int32) (mX8_places : Nat → Option Nat) (mX8_text : Nat → Option Nat) (mX8_size : Nat → Int32) (mX9_kind : Nat → Int32) (mX9_a : Nat → Int32) (mX9_b : Nat → Int32) (mX9_c : Nat → Int32) (mX26_rule : Nat → Int32) (mX26_instance : Nat → Int32) (mX26_premises : Nat → Option Nat) (mX26_count : Nat → Int32) (mX26_states : Nat → Option Nat) (mX26_right : Nat → Int32) (mX26_size : Nat → Int32) (mX10_takes : Nat → Int32) (mX10_name : Nat → Option Nat) (mX12_any : Nat → Int32) (mX14_kind : Nat → Int32) (mX16_kind : Nat → Int32) (mX18_first : Nat → Int32) (mX19_either : Nat → Int32) : Nat → va_E := fun a => match kd a with
  | 1 => .inr (ci 0, [va_rf (mX8_rules a), va_rf (mX8_axioms a), .int (mX8_axiomCount a), va_rf (mX8_givens a), .int (mX8_givenCount a), va_rf (mX8_wanted a), va_rf (mX8_rows a), .int (mX8_rowCount a), .int (mX8_looked a), va_rf (mX8_from a), va_rf (mX8_needed a), .int (mX8_broken a), va_rf (mX8_places a), va_rf (mX8_text a), .int (mX8_size a)])
  | 2 => .inr (ci 1, [.int (mX9_kind a), .int (mX9_a a), .int (mX9_b a), .int (mX9_c a)])
  | 3 => .inr (ci 2, [.int (mX26_rule a), .int (mX26_instance a), va_rf (mX26_premises a), .int (mX26_count a), va_rf (mX26_states a), .int (mX26_right a), .int (mX26_size a)])
  | 4 => .inr (ci 3, [.int (mX10_takes a), va_rf (mX10_name a)])
  | 5 => .inr (ci 4, [.int (mX10_takes a), va_rf (mX10_name a), .int (mX12_any a)])
  | 6 => .inr (ci 5, [.int (mX10_takes a), va_rf (mX10_name a)])
  | 7 => .inr (ci 6, [.int (mX10_takes a), va_rf (mX10_name a), .int (mX14_kind a)])
  | 8 => .inr (ci 7, [.int (mX10_takes a), va_rf (mX10_name a)])
  | 9 => .inr (ci 8, [.int (mX16_kind a), .int (mX10_takes a), va_rf (mX10_name a)])
  | 10 => .inr (ci 9, [.int (mX16_kind a), .int (mX10_takes a), va_rf (mX10_name a), .int (mX18_first a)])
  | 11 => .inr (ci 10, [.int (mX16_kind a), .int (mX10_takes a), va_rf (mX10_name a), .int (mX19_either a)])
  | 12 => .inr (ci 11, [.int (mX16_kind a), .int (mX10_takes a), va_rf (mX10_name a)])
  | 13 => .inr (ci 12, [.int (mX10_takes a), va_rf (mX10_name a)])
  | 14 => .inr (ci 13, [.int (mX10_takes a), va_rf (mX10_name a)])
  | 15 => .inr (ci 14, [.int (mX16_kind a), .int (mX10_takes a), va_rf (mX10_name a)])
  | 16 => .inr (ci 15, [.int (mX10_takes a), va_rf (mX10_name a)])
  | 17 => .inr (ci 16, [.int (mX10_takes a), va_rf (mX10_name a)])
  | 18 => .inl (d 0, an a, .inl (ai a))
  | 19 => .inl (d 1, an a, .inl (ai a))
  | 20 => .inl (d 2, an a, .inl (ai a))
  | 21 => .inl (d 3, an a, .inr (.inr (.inr (.inr (ar a)))))
  | 22 => .inl (d 4, an a, .inr (.inr (.inr (.inr (ar a)))))
  | 23 => .inl (d 5, an a, .inr (.inr (.inr (.inr (ar a)))))
  | _ => .inl (d 0, 0, .inl (fun _ => 0))
abbrev kPC : List vw_C := [(RX8, TX8, 15), (RX9, TX9, 4), (RX26, TX26, 7), (RX11, TX11, 2), (RX12, TX12, 3), (RX13, TX13, 2), (RX14, TX14, 3), (RX15, TX15, 2), (RX17, TX17, 3), (RX18, TX18, 4), (RX19, TX19, 4), (RX20, TX20, 3), (RX21, TX21, 2), (RX22, TX22, 2), (RX23, TX23, 3), (RX24, TX24, 2), (RX25, TX25, 2)]
abbrev tPC (d : Nat → ClassId) : List (ClassId × FieldType) := [(d 0, .int), (d 1, .boolean), (d 2, .byte), (d 3, (.object "KnowHouse$ProofChecker$Rule")), (d 4, (.object "KnowHouse$ProofChecker$Statement")), (d 5, (.object "KnowHouse$ProofChecker$Row"))]
theorem cPC_1 {ci : Nat → Nat} {d : Nat → ClassId} {kd : Nat → Nat} {an : Nat → Nat} {ai : Nat → Nat → Int32} {al : Nat → Nat → Int64} {ar : Nat → Nat → Option Nat} {mX8_rules : Nat → Option Nat} {mX8_axioms : Nat → Option Nat} {mX8_axiomCount : Nat → Int32} {mX8_givens : Nat → Option Nat} {mX8_givenCount : Nat → Int32} {mX8_wanted : Nat → Option Nat} {mX8_rows : Nat → Option Nat} {mX8_rowCount : Nat → Int32} {mX8_looked : Nat → Int32} {mX8_from : Nat → Option Nat} {mX8_needed : Nat → Option Nat} {mX8_broken : Nat → Int32} {mX8_places : Nat → Option Nat} {mX8_text : Nat → Option Nat} {mX8_size : Nat → Int32} {mX9_kind : Nat → Int32} {mX9_a : Nat → Int32} {mX9_b : Nat → Int32} {mX9_c : Nat → Int32} {mX26_rule : Nat → Int32} {mX26_instance : Nat → Int32} {mX26_premises : Nat → Option Nat} {mX26_count : Nat → Int32} {mX26_states : Nat → Option Nat} {mX26_right : Nat → Int32} {mX26_size : Nat → Int32} {mX10_takes : Nat → Int32} {mX10_name : Nat → Option Nat} {mX12_any : Nat → Int32} {mX14_kind : Nat → Int32} {mX16_kind : Nat → Int32} {mX18_first : Nat → Int32} {mX19_either : Nat → Int32} {a : Nat} (hk : kd a = 1) : (cPC ci d kd an ai al ar mX8_rules mX8_axioms mX8_axiomCount mX8_givens mX8_givenCount mX8_wanted mX8_rows mX8_rowCount mX8_looked mX8_from mX8_needed mX8_broken mX8_places mX8_text mX8_size mX9_kind mX9_a mX9_b mX9_c mX26_rule mX26_instance mX26_premises mX26_count mX26_states mX26_right mX26_size mX10_takes mX10_name mX12_any mX14_kind mX16_kind mX18_first mX19_either) a = .inr (ci 0, [va_rf (mX8_rules a), va_rf (mX8_axioms a), .int (mX8_axiomCount a), va_rf (mX8_givens a), .int (mX8_givenCount a), va_rf (mX8_wanted a), va_rf (mX8_rows a), .int (mX8_rowCount a), .int (mX8_looked a), va_rf (mX8_from a), va_rf (mX8_needed a), .int (mX8_broken a), va_rf (mX8_places a), va_rf (mX8_text a), .int (mX8_size a)]) := by unfold cPC; simp only [hk]
theorem cPC_1_0 {ci : Nat → Nat} {d : Nat → ClassId} {kd : Nat → Nat} {an : Nat → Nat} {ai : Nat → Nat → Int32} {al : Nat → Nat → Int64} {ar : Nat → Nat → Option Nat} {mX8_rules : Nat → Option Nat} {mX8_axioms : Nat → Option Nat} {mX8_axiomCount : Nat → Int32} {mX8_givens : Nat → Option Nat} {mX8_givenCount : Nat → Int32} {mX8_wanted : Nat → Option Nat} {mX8_rows : Nat → Option Nat} {mX8_rowCount : Nat → Int32} {mX8_looked : Nat → Int32} {mX8_from : Nat → Option Nat} {mX8_needed : Nat → Option Nat} {mX8_broken : Nat → Int32} {mX8_places : Nat → Option Nat} {mX8_text : Nat → Option Nat} {mX8_size : Nat → Int32} {mX9_kind : Nat → Int32} {mX9_a : Nat → Int32} {mX9_b : Nat → Int32} {mX9_c : Nat → Int32} {mX26_rule : Nat → Int32} {mX26_instance : Nat → Int32} {mX26_premises : Nat → Option Nat} {mX26_count : Nat → Int32} {mX26_states : Nat → Option Nat} {mX26_right : Nat → Int32} {mX26_size : Nat → Int32} {mX10_takes : Nat → Int32} {mX10_name : Nat → Option Nat} {mX12_any : Nat → Int32} {mX14_kind : Nat → Int32} {mX16_kind : Nat → Int32} {mX18_first : Nat → Int32} {mX19_either : Nat → Int32} {a : Nat} {v : Option Nat} (hk : kd a = 1) : va_up (cPC ci d kd an ai al ar mX8_rules mX8_axioms mX8_axiomCount mX8_givens mX8_givenCount mX8_wanted mX8_rows mX8_rowCount mX8_looked mX8_from mX8_needed mX8_broken mX8_places mX8_text mX8_size mX9_kind mX9_a mX9_b mX9_c mX26_rule mX26_instance mX26_premises mX26_count mX26_states mX26_right mX26_size mX10_takes mX10_name mX12_any mX14_kind mX16_kind mX18_first mX19_either) a (.inr (ci 0, [va_rf v, va_rf (mX8_axioms a), .int (mX8_axiomCount a), va_rf (mX8_givens a), .int (mX8_givenCount a), va_rf (mX8_wanted a), va_rf (mX8_rows a), .int (mX8_rowCount a), .int (mX8_looked a), va_rf (mX8_from a), va_rf (mX8_needed a), .int (mX8_broken a), va_rf (mX8_places a), va_rf (mX8_text a), .int (mX8_size a)])) = (cPC ci d kd an ai al ar (va_up mX8_rules a v) mX8_axioms mX8_axiomCount mX8_givens mX8_givenCount mX8_wanted mX8_rows mX8_rowCount mX8_looked mX8_from mX8_needed mX8_broken mX8_places mX8_text mX8_size mX9_kind mX9_a mX9_b mX9_c mX26_rule mX26_instance mX26_premises mX26_count mX26_states mX26_right mX26_size mX10_takes mX10_name mX12_any mX14_kind mX16_kind mX18_first mX19_either) := by
  funext b
  by_cases h : b = a
  · subst h
    rw [va_up_self]
    unfold cPC
    rw [hk]
    simp only [va_up_self]
  · rw [va_up_ne _ _ h]
    unfold cPC
    simp only [va_up_ne _ _ h]
theorem cPC_1_1 {ci : Nat → Nat} {d : Nat → ClassId} {kd : Nat → Nat} {an : Nat → Nat} {ai : Nat → Nat → Int32} {al : Nat → Nat → Int64} {ar : Nat → Nat → Option Nat} {mX8_rules : Nat → Option Nat} {mX8_axioms : Nat → Option Nat} {mX8_axiomCount : Nat → Int32} {mX8_givens : Nat → Option Nat} {mX8_givenCount : Nat → Int32} {mX8_wanted : Nat → Option Nat} {mX8_rows : Nat → Option Nat} {mX8_rowCount : Nat → Int32} {mX8_looked : Nat → Int32} {mX8_from : Nat → Option Nat} {mX8_needed : Nat → Option Nat} {mX8_broken : Nat → Int32} {mX8_places : Nat → Option Nat} {mX8_text : Nat → Option Nat} {mX8_size : Nat → Int32} {mX9_kind : Nat → Int32} {mX9_a : Nat → Int32} {mX9_b : Nat → Int32} {mX9_c : Nat → Int32} {mX26_rule : Nat → Int32} {mX26_instance : Nat → Int32} {mX26_premises : Nat → Option Nat} {mX26_count : Nat → Int32} {mX26_states : Nat → Option Nat} {mX26_right : Nat → Int32} {mX26_size : Nat → Int32} {mX10_takes : Nat → Int32} {mX10_name : Nat → Option Nat} {mX12_any : Nat → Int32} {mX14_kind : Nat → Int32} {mX16_kind : Nat → Int32} {mX18_first : Nat → Int32} {mX19_either : Nat → Int32} {a : Nat} {v : Option Nat} (hk : kd a = 1) : va_up (cPC ci d kd an ai al ar mX8_rules mX8_axioms mX8_axiomCount mX8_givens mX8_givenCount mX8_wanted mX8_rows mX8_rowCount mX8_looked mX8_from mX8_needed mX8_broken mX8_places mX8_text mX8_size mX9_kind mX9_a mX9_b mX9_c mX26_rule mX26_instance mX26_premises mX26_count mX26_states mX26_right mX26_size mX10_takes mX10_name mX12_any mX14_kind mX16_kind mX18_first mX19_either) a (.inr (ci 0, [va_rf (mX8_rules a), va_rf v, .int (mX8_axiomCount a), va_rf (mX8_givens a), .int (mX8_givenCount a), va_rf (mX8_wanted a), va_rf (mX8_rows a), .int (mX8_rowCount a), .int (mX8_looked a), va_rf (mX8_from a), va_rf (mX8_needed a), .int (mX8_broken a), va_rf (mX8_places a), va_rf (mX8_text a), .int (mX8_size a)])) = (cPC ci d kd an ai al ar mX8_rules (va_up mX8_axioms a v) mX8_axiomCount mX8_givens mX8_givenCount mX8_wanted mX8_rows mX8_rowCount mX8_looked mX8_from mX8_needed mX8_broken mX8_places mX8_text mX8_size mX9_kind mX9_a mX9_b mX9_c mX26_rule mX26_instance mX26_premises mX26_count mX26_states mX26_right mX26_size mX10_takes mX10_name mX12_any mX14_kind mX16_kind mX18_first mX19_either) := by
  funext b
  by_cases h : b = a
  · subst h
    rw [va_up_self]
    unfold cPC
    rw [hk]
    simp only [va_up_self]
  · rw [va_up_ne _ _ h]
    unfold cPC
    simp only [va_up_ne _ _ h]
theorem cPC_1_2 {ci : Nat → Nat} {d : Nat → ClassId} {kd : Nat → Nat} {an : Nat → Nat} {ai : Nat → Nat → Int32} {al : Nat → Nat → Int64} {ar : Nat → Nat → Option Nat} {mX8_rules : Nat → Option Nat} {mX8_axioms : Nat → Option Nat} {mX8_axiomCount : Nat → Int32} {mX8_givens : Nat → Option Nat} {mX8_givenCount : Nat → Int32} {mX8_wanted : Nat → Option Nat} {mX8_rows : Nat → Option Nat} {mX8_rowCount : Nat → Int32} {mX8_looked : Nat → Int32} {mX8_from : Nat → Option Nat} {mX8_needed : Nat → Option Nat} {mX8_broken : Nat → Int32} {mX8_places : Nat → Option Nat} {mX8_text : Nat → Option Nat} {mX8_size : Nat → Int32} {mX9_kind : Nat → Int32} {mX9_a : Nat → Int32} {mX9_b : Nat → Int32} {mX9_c : Nat → Int32} {mX26_rule : Nat → Int32} {mX26_instance : Nat → Int32} {mX26_premises : Nat → Option Nat} {mX26_count : Nat → Int32} {mX26_states : Nat → Option Nat} {mX26_right : Nat → Int32} {mX26_size : Nat → Int32} {mX10_takes : Nat → Int32} {mX10_name : Nat → Option Nat} {mX12_any : Nat → Int32} {mX14_kind : Nat → Int32} {mX16_kind : Nat → Int32} {mX18_first : Nat → Int32} {mX19_either : Nat → Int32} {a : Nat} {v : Int32} (hk : kd a = 1) : va_up (cPC ci d kd an ai al ar mX8_rules mX8_axioms mX8_axiomCount mX8_givens mX8_givenCount mX8_wanted mX8_rows mX8_rowCount mX8_looked mX8_from mX8_needed mX8_broken mX8_places mX8_text mX8_size mX9_kind mX9_a mX9_b mX9_c mX26_rule mX26_instance mX26_premises mX26_count mX26_states mX26_right mX26_size mX10_takes mX10_name mX12_any mX14_kind mX16_kind mX18_first mX19_either) a (.inr (ci 0, [va_rf (mX8_rules a), va_rf (mX8_axioms a), .int v, va_rf (mX8_givens a), .int (mX8_givenCount a), va_rf (mX8_wanted a), va_rf (mX8_rows a), .int (mX8_rowCount a), .int (mX8_looked a), va_rf (mX8_from a), va_rf (mX8_needed a), .int (mX8_broken a), va_rf (mX8_places a), va_rf (mX8_text a), .int (mX8_size a)])) = (cPC ci d kd an ai al ar mX8_rules mX8_axioms (va_up mX8_axiomCount a v) mX8_givens mX8_givenCount mX8_wanted mX8_rows mX8_rowCount mX8_looked mX8_from mX8_needed mX8_broken mX8_places mX8_text mX8_size mX9_kind mX9_a mX9_b mX9_c mX26_rule mX26_instance mX26_premises mX26_count mX26_states mX26_right mX26_size mX10_takes mX10_name mX12_any mX14_kind mX16_kind mX18_first mX19_either) := by
  funext b
  by_cases h : b = a
  · subst h
    rw [va_up_self]
    unfold cPC
    rw [hk]
    simp only [va_up_self]
  · rw [va_up_ne _ _ h]
    unfold cPC
    simp only [va_up_ne _ _ h]
theorem cPC_1_3 {ci : Nat → Nat} {d : Nat → ClassId} {kd : Nat → Nat} {an : Nat → Nat} {ai : Nat → Nat → Int32} {al : Nat → Nat → Int64} {ar : Nat → Nat → Option Nat} {mX8_rules : Nat → Option Nat} {mX8_axioms : Nat → Option Nat} {mX8_axiomCount : Nat → Int32} {mX8_givens : Nat → Option Nat} {mX8_givenCount : Nat → Int32} {mX8_wanted : Nat → Option Nat} {mX8_rows : Nat → Option Nat} {mX8_rowCount : Nat → Int32} {mX8_looked : Nat → Int32} {mX8_from : Nat → Option Nat} {mX8_needed : Nat → Option Nat} {mX8_broken : Nat → Int32} {mX8_places : Nat → Option Nat} {mX8_text : Nat → Option Nat} {mX8_size : Nat → Int32} {mX9_kind : Nat → Int32} {mX9_a : Nat → Int32} {mX9_b : Nat → Int32} {mX9_c : Nat → Int32} {mX26_rule : Nat → Int32} {mX26_instance : Nat → Int32} {mX26_premises : Nat → Option Nat} {mX26_count : Nat → Int32} {mX26_states : Nat → Option Nat} {mX26_right : Nat → Int32} {mX26_size : Nat → Int32} {mX10_takes : Nat → Int32} {mX10_name : Nat → Option Nat} {mX12_any : Nat → Int32} {mX14_kind : Nat → Int32} {mX16_kind : Nat → Int32} {mX18_first : Nat → Int32} {mX19_either : Nat → Int32} {a : Nat} {v : Option Nat} (hk : kd a = 1) : va_up (cPC ci d kd an ai al ar mX8_rules mX8_axioms mX8_axiomCount mX8_givens mX8_givenCount mX8_wanted mX8_rows mX8_rowCount mX8_looked mX8_from mX8_needed mX8_broken mX8_places mX8_text mX8_size mX9_kind mX9_a mX9_b mX9_c mX26_rule mX26_instance mX26_premises mX26_count mX26_states mX26_right mX26_size mX10_takes mX10_name mX12_any mX14_kind mX16_kind mX18_first mX19_either) a (.inr (ci 0, [va_rf (mX8_rules a), va_rf (mX8_axioms a), .int (mX8_axiomCount a), va_rf v, .int (mX8_givenCount a), va_rf (mX8_wanted a), va_rf (mX8_rows a), .int (mX8_rowCount a), .int (mX8_looked a), va_rf (mX8_from a), va_rf (mX8_needed a), .int (mX8_broken a), va_rf (mX8_places a), va_rf (mX8_text a), .int (mX8_size a)])) = (cPC ci d kd an ai al ar mX8_rules mX8_axioms mX8_axiomCount (va_up mX8_givens a v) mX8_givenCount mX8_wanted mX8_rows mX8_rowCount mX8_looked mX8_from mX8_needed mX8_broken mX8_places mX8_text mX8_size mX9_kind mX9_a mX9_b mX9_c mX26_rule mX26_instance mX26_premises mX26_count mX26_states mX26_right mX26_size mX10_takes mX10_name mX12_any mX14_kind mX16_kind mX18_first mX19_either) := by
  funext b
  by_cases h : b = a
  · subst h
    rw [va_up_self]
    unfold cPC
    rw [hk]
    simp only [va_up_self]
  · rw [va_up_ne _ _ h]
    unfold cPC
    simp only [va_up_ne _ _ h]
theorem cPC_1_4 {ci : Nat → Nat} {d : Nat → ClassId} {kd : Nat → Nat} {an : Nat → Nat} {ai : Nat → Nat → Int32} {al : Nat → Nat → Int64} {ar : Nat → Nat → Option Nat} {mX8_rules : Nat → Option Nat} {mX8_axioms : Nat → Option Nat} {mX8_axiomCount : Nat → Int32} {mX8_givens : Nat → Option Nat} {mX8_givenCount : Nat → Int32} {mX8_wanted : Nat → Option Nat} {mX8_rows : Nat → Option Nat} {mX8_rowCount : Nat → Int32} {mX8_looked : Nat → Int32} {mX8_from : Nat → Option Nat} {mX8_needed : Nat → Option Nat} {mX8_broken : Nat → Int32} {mX8_places : Nat → Option Nat} {mX8_text : Nat → Option Nat} {mX8_size : Nat → Int32} {mX9_kind : Nat → Int32} {mX9_a : Nat → Int32} {mX9_b : Nat → Int32} {mX9_c : Nat → Int32} {mX26_rule : Nat → Int32} {mX26_instance : Nat → Int32} {mX26_premises : Nat → Option Nat} {mX26_count : Nat → Int32} {mX26_states : Nat → Option Nat} {mX26_right : Nat → Int32} {mX26_size : Nat → Int32} {mX10_takes : Nat → Int32} {mX10_name : Nat → Option Nat} {mX12_any : Nat → Int32} {mX14_kind : Nat → Int32} {mX16_kind : Nat → Int32} {mX18_first : Nat → Int32} {mX19_either : Nat → Int32} {a : Nat} {v : Int32} (hk : kd a = 1) : va_up (cPC ci d kd an ai al ar mX8_rules mX8_axioms mX8_axiomCount mX8_givens mX8_givenCount mX8_wanted mX8_rows mX8_rowCount mX8_looked mX8_from mX8_needed mX8_broken mX8_places mX8_text mX8_size mX9_kind mX9_a mX9_b mX9_c mX26_rule mX26_instance mX26_premises mX26_count mX26_states mX26_right mX26_size mX10_takes mX10_name mX12_any mX14_kind mX16_kind mX18_first mX19_either) a (.inr (ci 0, [va_rf (mX8_rules a), va_rf (mX8_axioms a), .int (mX8_axiomCount a), va_rf (mX8_givens a), .int v, va_rf (mX8_wanted a), va_rf (mX8_rows a), .int (mX8_rowCount a), .int (mX8_looked a), va_rf (mX8_from a), va_rf (mX8_needed a), .int (mX8_broken a), va_rf (mX8_places a), va_rf (mX8_text a), .int (mX8_size a)])) = (cPC ci d kd an ai al ar mX8_rules mX8_axioms mX8_axiomCount mX8_givens (va_up mX8_givenCount a v) mX8_wanted mX8_rows mX8_rowCount mX8_looked mX8_from mX8_needed mX8_broken mX8_places mX8_text mX8_size mX9_kind mX9_a mX9_b mX9_c mX26_rule mX26_instance mX26_premises mX26_count mX26_states mX26_right mX26_size mX10_takes mX10_name mX12_any mX14_kind mX16_kind mX18_first mX19_either) := by
  funext b
  by_cases h : b = a
  · subst h
    rw [va_up_self]
    unfold cPC
    rw [hk]
    simp only [va_up_self]
  · rw [va_up_ne _ _ h]
    unfold cPC
    simp only [va_up_ne _ _ h]
theorem cPC_1_5 {ci : Nat → Nat} {d : Nat → ClassId} {kd : Nat → Nat} {an : Nat → Nat} {ai : Nat → Nat → Int32} {al : Nat → Nat → Int64} {ar : Nat → Nat → Option Nat} {mX8_rules : Nat → Option Nat} {mX8_axioms : Nat → Option Nat} {mX8_axiomCount : Nat → Int32} {mX8_givens : Nat → Option Nat} {mX8_givenCount : Nat → Int32} {mX8_wanted : Nat → Option Nat} {mX8_rows : Nat → Option Nat} {mX8_rowCount : Nat → Int32} {mX8_looked : Nat → Int32} {mX8_from : Nat → Option Nat} {mX8_needed : Nat → Option Nat} {mX8_broken : Nat → Int32} {mX8_places : Nat → Option Nat} {mX8_text : Nat → Option Nat} {mX8_size : Nat → Int32} {mX9_kind : Nat → Int32} {mX9_a : Nat → Int32} {mX9_b : Nat → Int32} {mX9_c : Nat → Int32} {mX26_rule : Nat → Int32} {mX26_instance : Nat → Int32} {mX26_premises : Nat → Option Nat} {mX26_count : Nat → Int32} {mX26_states : Nat → Option Nat} {mX26_right : Nat → Int32} {mX26_size : Nat → Int32} {mX10_takes : Nat → Int32} {mX10_name : Nat → Option Nat} {mX12_any : Nat → Int32} {mX14_kind : Nat → Int32} {mX16_kind : Nat → Int32} {mX18_first : Nat → Int32} {mX19_either : Nat → Int32} {a : Nat} {v : Option Nat} (hk : kd a = 1) : va_up (cPC ci d kd an ai al ar mX8_rules mX8_axioms mX8_axiomCount mX8_givens mX8_givenCount mX8_wanted mX8_rows mX8_rowCount mX8_looked mX8_from mX8_needed mX8_broken mX8_places mX8_text mX8_size mX9_kind mX9_a mX9_b mX9_c mX26_rule mX26_instance mX26_premises mX26_count mX26_states mX26_right mX26_size mX10_takes mX10_name mX12_any mX14_kind mX16_kind mX18_first mX19_either) a (.inr (ci 0, [va_rf (mX8_rules a), va_rf (mX8_axioms a), .int (mX8_axiomCount a), va_rf (mX8_givens a), .int (mX8_givenCount a), va_rf v, va_rf (mX8_rows a), .int (mX8_rowCount a), .int (mX8_looked a), va_rf (mX8_from a), va_rf (mX8_needed a), .int (mX8_broken a), va_rf (mX8_places a), va_rf (mX8_text a), .int (mX8_size a)])) = (cPC ci d kd an ai al ar mX8_rules mX8_axioms mX8_axiomCount mX8_givens mX8_givenCount (va_up mX8_wanted a v) mX8_rows mX8_rowCount mX8_looked mX8_from mX8_needed mX8_broken mX8_places mX8_text mX8_size mX9_kind mX9_a mX9_b mX9_c mX26_rule mX26_instance mX26_premises mX26_count mX26_states mX26_right mX26_size mX10_takes mX10_name mX12_any mX14_kind mX16_kind mX18_first mX19_either) := by
  funext b
  by_cases h : b = a
  · subst h
    rw [va_up_self]
    unfold cPC
    rw [hk]
    simp only [va_up_self]
  · rw [va_up_ne _ _ h]
    unfold cPC
    simp only [va_up_ne _ _ h]
theorem cPC_1_6 {ci : Nat → Nat} {d : Nat → ClassId} {kd : Nat → Nat} {an : Nat → Nat} {ai : Nat → Nat → Int32} {al : Nat → Nat → Int64} {ar : Nat → Nat → Option Nat} {mX8_rules : Nat → Option Nat} {mX8_axioms : Nat → Option Nat} {mX8_axiomCount : Nat → Int32} {mX8_givens : Nat → Option Nat} {mX8_givenCount : Nat → Int32} {mX8_wanted : Nat → Option Nat} {mX8_rows : Nat → Option Nat} {mX8_rowCount : Nat → Int32} {mX8_looked : Nat → Int32} {mX8_from : Nat → Option Nat} {mX8_needed : Nat → Option Nat} {mX8_broken : Nat → Int32} {mX8_places : Nat → Option Nat} {mX8_text : Nat → Option Nat} {mX8_size : Nat → Int32} {mX9_kind : Nat → Int32} {mX9_a : Nat → Int32} {mX9_b : Nat → Int32} {mX9_c : Nat → Int32} {mX26_rule : Nat → Int32} {mX26_instance : Nat → Int32} {mX26_premises : Nat → Option Nat} {mX26_count : Nat → Int32} {mX26_states : Nat → Option Nat} {mX26_right : Nat → Int32} {mX26_size : Nat → Int32} {mX10_takes : Nat → Int32} {mX10_name : Nat → Option Nat} {mX12_any : Nat → Int32} {mX14_kind : Nat → Int32} {mX16_kind : Nat → Int32} {mX18_first : Nat → Int32} {mX19_either : Nat → Int32} {a : Nat} {v : Option Nat} (hk : kd a = 1) : va_up (cPC ci d kd an ai al ar mX8_rules mX8_axioms mX8_axiomCount mX8_givens mX8_givenCount mX8_wanted mX8_rows mX8_rowCount mX8_looked mX8_from mX8_needed mX8_broken mX8_places mX8_text mX8_size mX9_kind mX9_a mX9_b mX9_c mX26_rule mX26_instance mX26_premises mX26_count mX26_states mX26_right mX26_size mX10_takes mX10_name mX12_any mX14_kind mX16_kind mX18_first mX19_either) a (.inr (ci 0, [va_rf (mX8_rules a), va_rf (mX8_axioms a), .int (mX8_axiomCount a), va_rf (mX8_givens a), .int (mX8_givenCount a), va_rf (mX8_wanted a), va_rf v, .int (mX8_rowCount a), .int (mX8_looked a), va_rf (mX8_from a), va_rf (mX8_needed a), .int (mX8_broken a), va_rf (mX8_places a), va_rf (mX8_text a), .int (mX8_size a)])) = (cPC ci d kd an ai al ar mX8_rules mX8_axioms mX8_axiomCount mX8_givens mX8_givenCount mX8_wanted (va_up mX8_rows a v) mX8_rowCount mX8_looked mX8_from mX8_needed mX8_broken mX8_places mX8_text mX8_size mX9_kind mX9_a mX9_b mX9_c mX26_rule mX26_instance mX26_premises mX26_count mX26_states mX26_right mX26_size mX10_takes mX10_name mX12_any mX14_kind mX16_kind mX18_first mX19_either) := by
  funext b
  by_cases h : b = a
  · subst h
    rw [va_up_self]
    unfold cPC
    rw [hk]
    simp only [va_up_self]
  · rw [va_up_ne _ _ h]
    unfold cPC
    simp only [va_up_ne _ _ h]
theorem cPC_1_7 {ci : Nat → Nat} {d : Nat → ClassId} {kd : Nat → Nat} {an : Nat → Nat} {ai : Nat → Nat → Int32} {al : Nat → Nat → Int64} {ar : Nat → Nat → Option Nat} {mX8_rules : Nat → Option Nat} {mX8_axioms : Nat → Option Nat} {mX8_axiomCount : Nat → Int32} {mX8_givens : Nat → Option Nat} {mX8_givenCount : Nat → Int32} {mX8_wanted : Nat → Option Nat} {mX8_rows : Nat → Option Nat} {mX8_rowCount : Nat → Int32} {mX8_looked : Nat → Int32} {mX8_from : Nat → Option Nat} {mX8_needed : Nat → Option Nat} {mX8_broken : Nat → Int32} {mX8_places : Nat → Option Nat} {mX8_text : Nat → Option Nat} {mX8_size : Nat → Int32} {mX9_kind : Nat → Int32} {mX9_a : Nat → Int32} {mX9_b : Nat → Int32} {mX9_c : Nat → Int32} {mX26_rule : Nat → Int32} {mX26_instance : Nat → Int32} {mX26_premises : Nat → Option Nat} {mX26_count : Nat → Int32} {mX26_states : Nat → Option Nat} {mX26_right : Nat → Int32} {mX26_size : Nat → Int32} {mX10_takes : Nat → Int32} {mX10_name : Nat → Option Nat} {mX12_any : Nat → Int32} {mX14_kind : Nat → Int32} {mX16_kind : Nat → Int32} {mX18_first : Nat → Int32} {mX19_either : Nat → Int32} {a : Nat} {v : Int32} (hk : kd a = 1) : va_up (cPC ci d kd an ai al ar mX8_rules mX8_axioms mX8_axiomCount mX8_givens mX8_givenCount mX8_wanted mX8_rows mX8_rowCount mX8_looked mX8_from mX8_needed mX8_broken mX8_places mX8_text mX8_size mX9_kind mX9_a mX9_b mX9_c mX26_rule mX26_instance mX26_premises mX26_count mX26_states mX26_right mX26_size mX10_takes mX10_name mX12_any mX14_kind mX16_kind mX18_first mX19_either) a (.inr (ci 0, [va_rf (mX8_rules a), va_rf (mX8_axioms a), .int (mX8_axiomCount a), va_rf (mX8_givens a), .int (mX8_givenCount a), va_rf (mX8_wanted a), va_rf (mX8_rows a), .int v, .int (mX8_looked a), va_rf (mX8_from a), va_rf (mX8_needed a), .int (mX8_broken a), va_rf (mX8_places a), va_rf (mX8_text a), .int (mX8_size a)])) = (cPC ci d kd an ai al ar mX8_rules mX8_axioms mX8_axiomCount mX8_givens mX8_givenCount mX8_wanted mX8_rows (va_up mX8_rowCount a v) mX8_looked mX8_from mX8_needed mX8_broken mX8_places mX8_text mX8_size mX9_kind mX9_a mX9_b mX9_c mX26_rule mX26_instance mX26_premises mX26_count mX26_states mX26_right mX26_size mX10_takes mX10_name mX12_any mX14_kind mX16_kind mX18_first mX19_either) := by
  funext b
  by_cases h : b = a
  · subst h
    rw [va_up_self]
    unfold cPC
    rw [hk]
    simp only [va_up_self]
  · rw [va_up_ne _ _ h]
    unfold cPC
    simp only [va_up_ne _ _ h]
theorem cPC_1_8 {ci : Nat → Nat} {d : Nat → ClassId} {kd : Nat → Nat} {an : Nat → Nat} {ai : Nat → Nat → Int32} {al : Nat → Nat → Int64} {ar : Nat → Nat → Option Nat} {mX8_rules : Nat → Option Nat} {mX8_axioms : Nat → Option Nat} {mX8_axiomCount : Nat → Int32} {mX8_givens : Nat → Option Nat} {mX8_givenCount : Nat → Int32} {mX8_wanted : Nat → Option Nat} {mX8_rows : Nat → Option Nat} {mX8_rowCount : Nat → Int32} {mX8_looked : Nat → Int32} {mX8_from : Nat → Option Nat} {mX8_needed : Nat → Option Nat} {mX8_broken : Nat → Int32} {mX8_places : Nat → Option Nat} {mX8_text : Nat → Option Nat} {mX8_size : Nat → Int32} {mX9_kind : Nat → Int32} {mX9_a : Nat → Int32} {mX9_b : Nat → Int32} {mX9_c : Nat → Int32} {mX26_rule : Nat → Int32} {mX26_instance : Nat → Int32} {mX26_premises : Nat → Option Nat} {mX26_count : Nat → Int32} {mX26_states : Nat → Option Nat} {mX26_right : Nat → Int32} {mX26_size : Nat → Int32} {mX10_takes : Nat → Int32} {mX10_name : Nat → Option Nat} {mX12_any : Nat → Int32} {mX14_kind : Nat → Int32} {mX16_kind : Nat → Int32} {mX18_first : Nat → Int32} {mX19_either : Nat → Int32} {a : Nat} {v : Int32} (hk : kd a = 1) : va_up (cPC ci d kd an ai al ar mX8_rules mX8_axioms mX8_axiomCount mX8_givens mX8_givenCount mX8_wanted mX8_rows mX8_rowCount mX8_looked mX8_from mX8_needed mX8_broken mX8_places mX8_text mX8_size mX9_kind mX9_a mX9_b mX9_c mX26_rule mX26_instance mX26_premises mX26_count mX26_states mX26_right mX26_size mX10_takes mX10_name mX12_any mX14_kind mX16_kind mX18_first mX19_either) a (.inr (ci 0, [va_rf (mX8_rules a), va_rf (mX8_axioms a), .int (mX8_axiomCount a), va_rf (mX8_givens a), .int (mX8_givenCount a), va_rf (mX8_wanted a), va_rf (mX8_rows a), .int (mX8_rowCount a), .int v, va_rf (mX8_from a), va_rf (mX8_needed a), .int (mX8_broken a), va_rf (mX8_places a), va_rf (mX8_text a), .int (mX8_size a)])) = (cPC ci d kd an ai al ar mX8_rules mX8_axioms mX8_axiomCount mX8_givens mX8_givenCount mX8_wanted mX8_rows mX8_rowCount (va_up mX8_looked a v) mX8_from mX8_needed mX8_broken mX8_places mX8_text mX8_size mX9_kind mX9_a mX9_b mX9_c mX26_rule mX26_instance mX26_premises mX26_count mX26_states mX26_right mX26_size mX10_takes mX10_name mX12_any mX14_kind mX16_kind mX18_first mX19_either) := by
  funext b
  by_cases h : b = a
  · subst h
    rw [va_up_self]
    unfold cPC
    rw [hk]
    simp only [va_up_self]
  · rw [va_up_ne _ _ h]
    unfold cPC
    simp only [va_up_ne _ _ h]
theorem cPC_1_9 {ci : Nat → Nat} {d : Nat → ClassId} {kd : Nat → Nat} {an : Nat → Nat} {ai : Nat → Nat → Int32} {al : Nat → Nat → Int64} {ar : Nat → Nat → Option Nat} {mX8_rules : Nat → Option Nat} {mX8_axioms : Nat → Option Nat} {mX8_axiomCount : Nat → Int32} {mX8_givens : Nat → Option Nat} {mX8_givenCount : Nat → Int32} {mX8_wanted : Nat → Option Nat} {mX8_rows : Nat → Option Nat} {mX8_rowCount : Nat → Int32} {mX8_looked : Nat → Int32} {mX8_from : Nat → Option Nat} {mX8_needed : Nat → Option Nat} {mX8_broken : Nat → Int32} {mX8_places : Nat → Option Nat} {mX8_text : Nat → Option Nat} {mX8_size : Nat → Int32} {mX9_kind : Nat → Int32} {mX9_a : Nat → Int32} {mX9_b : Nat → Int32} {mX9_c : Nat → Int32} {mX26_rule : Nat → Int32} {mX26_instance : Nat → Int32} {mX26_premises : Nat → Option Nat} {mX26_count : Nat → Int32} {mX26_states : Nat → Option Nat} {mX26_right : Nat → Int32} {mX26_size : Nat → Int32} {mX10_takes : Nat → Int32} {mX10_name : Nat → Option Nat} {mX12_any : Nat → Int32} {mX14_kind : Nat → Int32} {mX16_kind : Nat → Int32} {mX18_first : Nat → Int32} {mX19_either : Nat → Int32} {a : Nat} {v : Option Nat} (hk : kd a = 1) : va_up (cPC ci d kd an ai al ar mX8_rules mX8_axioms mX8_axiomCount mX8_givens mX8_givenCount mX8_wanted mX8_rows mX8_rowCount mX8_looked mX8_from mX8_needed mX8_broken mX8_places mX8_text mX8_size mX9_kind mX9_a mX9_b mX9_c mX26_rule mX26_instance mX26_premises mX26_count mX26_states mX26_right mX26_size mX10_takes mX10_name mX12_any mX14_kind mX16_kind mX18_first mX19_either) a (.inr (ci 0, [va_rf (mX8_rules a), va_rf (mX8_axioms a), .int (mX8_axiomCount a), va_rf (mX8_givens a), .int (mX8_givenCount a), va_rf (mX8_wanted a), va_rf (mX8_rows a), .int (mX8_rowCount a), .int (mX8_looked a), va_rf v, va_rf (mX8_needed a), .int (mX8_broken a), va_rf (mX8_places a), va_rf (mX8_text a), .int (mX8_size a)])) = (cPC ci d kd an ai al ar mX8_rules mX8_axioms mX8_axiomCount mX8_givens mX8_givenCount mX8_wanted mX8_rows mX8_rowCount mX8_looked (va_up mX8_from a v) mX8_needed mX8_broken mX8_places mX8_text mX8_size mX9_kind mX9_a mX9_b mX9_c mX26_rule mX26_instance mX26_premises mX26_count mX26_states mX26_right mX26_size mX10_takes mX10_name mX12_any mX14_kind mX16_kind mX18_first mX19_either) := by
  funext b
  by_cases h : b = a
  · subst h
    rw [va_up_self]
    unfold cPC
    rw [hk]
    simp only [va_up_self]
  · rw [va_up_ne _ _ h]
    unfold cPC
    simp only [va_up_ne _ _ h]
theorem cPC_1_10 {ci : Nat → Nat} {d : Nat → ClassId} {kd : Nat → Nat} {an : Nat → Nat} {ai : Nat → Nat → Int32} {al : Nat → Nat → Int64} {ar : Nat → Nat → Option Nat} {mX8_rules : Nat → Option Nat} {mX8_axioms : Nat → Option Nat} {mX8_axiomCount : Nat → Int32} {mX8_givens : Nat → Option Nat} {mX8_givenCount : Nat → Int32} {mX8_wanted : Nat → Option Nat} {mX8_rows : Nat → Option Nat} {mX8_rowCount : Nat → Int32} {mX8_looked : Nat → Int32} {mX8_from : Nat → Option Nat} {mX8_needed : Nat → Option Nat} {mX8_broken : Nat → Int32} {mX8_places : Nat → Option Nat} {mX8_text : Nat → Option Nat} {mX8_size : Nat → Int32} {mX9_kind : Nat → Int32} {mX9_a : Nat → Int32} {mX9_b : Nat → Int32} {mX9_c : Nat → Int32} {mX26_rule : Nat → Int32} {mX26_instance : Nat → Int32} {mX26_premises : Nat → Option Nat} {mX26_count : Nat → Int32} {mX26_states : Nat → Option Nat} {mX26_right : Nat → Int32} {mX26_size : Nat → Int32} {mX10_takes : Nat → Int32} {mX10_name : Nat → Option Nat} {mX12_any : Nat → Int32} {mX14_kind : Nat → Int32} {mX16_kind : Nat → Int32} {mX18_first : Nat → Int32} {mX19_either : Nat → Int32} {a : Nat} {v : Option Nat} (hk : kd a = 1) : va_up (cPC ci d kd an ai al ar mX8_rules mX8_axioms mX8_axiomCount mX8_givens mX8_givenCount mX8_wanted mX8_rows mX8_rowCount mX8_looked mX8_from mX8_needed mX8_broken mX8_places mX8_text mX8_size mX9_kind mX9_a mX9_b mX9_c mX26_rule mX26_instance mX26_premises mX26_count mX26_states mX26_right mX26_size mX10_takes mX10_name mX12_any mX14_kind mX16_kind mX18_first mX19_either) a (.inr (ci 0, [va_rf (mX8_rules a), va_rf (mX8_axioms a), .int (mX8_axiomCount a), va_rf (mX8_givens a), .int (mX8_givenCount a), va_rf (mX8_wanted a), va_rf (mX8_rows a), .int (mX8_rowCount a), .int (mX8_looked a), va_rf (mX8_from a), va_rf v, .int (mX8_broken a), va_rf (mX8_places a), va_rf (mX8_text a), .int (mX8_size a)])) = (cPC ci d kd an ai al ar mX8_rules mX8_axioms mX8_axiomCount mX8_givens mX8_givenCount mX8_wanted mX8_rows mX8_rowCount mX8_looked mX8_from (va_up mX8_needed a v) mX8_broken mX8_places mX8_text mX8_size mX9_kind mX9_a mX9_b mX9_c mX26_rule mX26_instance mX26_premises mX26_count mX26_states mX26_right mX26_size mX10_takes mX10_name mX12_any mX14_kind mX16_kind mX18_first mX19_either) := by
  funext b
  by_cases h : b = a
  · subst h
    rw [va_up_self]
    unfold cPC
    rw [hk]
    simp only [va_up_self]
  · rw [va_up_ne _ _ h]
    unfold cPC
    simp only [va_up_ne _ _ h]
theorem cPC_1_11 {ci : Nat → Nat} {d : Nat → ClassId} {kd : Nat → Nat} {an : Nat → Nat} {ai : Nat → Nat → Int32} {al : Nat → Nat → Int64} {ar : Nat → Nat → Option Nat} {mX8_rules : Nat → Option Nat} {mX8_axioms : Nat → Option Nat} {mX8_axiomCount : Nat → Int32} {mX8_givens : Nat → Option Nat} {mX8_givenCount : Nat → Int32} {mX8_wanted : Nat → Option Nat} {mX8_rows : Nat → Option Nat} {mX8_rowCount : Nat → Int32} {mX8_looked : Nat → Int32} {mX8_from : Nat → Option Nat} {mX8_needed : Nat → Option Nat} {mX8_broken : Nat → Int32} {mX8_places : Nat → Option Nat} {mX8_text : Nat → Option Nat} {mX8_size : Nat → Int32} {mX9_kind : Nat → Int32} {mX9_a : Nat → Int32} {mX9_b : Nat → Int32} {mX9_c : Nat → Int32} {mX26_rule : Nat → Int32} {mX26_instance : Nat → Int32} {mX26_premises : Nat → Option Nat} {mX26_count : Nat → Int32} {mX26_states : Nat → Option Nat} {mX26_right : Nat → Int32} {mX26_size : Nat → Int32} {mX10_takes : Nat → Int32} {mX10_name : Nat → Option Nat} {mX12_any : Nat → Int32} {mX14_kind : Nat → Int32} {mX16_kind : Nat → Int32} {mX18_first : Nat → Int32} {mX19_either : Nat → Int32} {a : Nat} {v : Int32} (hk : kd a = 1) : va_up (cPC ci d kd an ai al ar mX8_rules mX8_axioms mX8_axiomCount mX8_givens mX8_givenCount mX8_wanted mX8_rows mX8_rowCount mX8_looked mX8_from mX8_needed mX8_broken mX8_places mX8_text mX8_size mX9_kind mX9_a mX9_b mX9_c mX26_rule mX26_instance mX26_premises mX26_count mX26_states mX26_right mX26_size mX10_takes mX10_name mX12_any mX14_kind mX16_kind mX18_first mX19_either) a (.inr (ci 0, [va_rf (mX8_rules a), va_rf (mX8_axioms a), .int (mX8_axiomCount a), va_rf (mX8_givens a), .int (mX8_givenCount a), va_rf (mX8_wanted a), va_rf (mX8_rows a), .int (mX8_rowCount a), .int (mX8_looked a), va_rf (mX8_from a), va_rf (mX8_needed a), .int v, va_rf (mX8_places a), va_rf (mX8_text a), .int (mX8_size a)])) = (cPC ci d kd an ai al ar mX8_rules mX8_axioms mX8_axiomCount mX8_givens mX8_givenCount mX8_wanted mX8_rows mX8_rowCount mX8_looked mX8_from mX8_needed (va_up mX8_broken a v) mX8_places mX8_text mX8_size mX9_kind mX9_a mX9_b mX9_c mX26_rule mX26_instance mX26_premises mX26_count mX26_states mX26_right mX26_size mX10_takes mX10_name mX12_any mX14_kind mX16_kind mX18_first mX19_either) := by
  funext b
  by_cases h : b = a
  · subst h
    rw [va_up_self]
    unfold cPC
    rw [hk]
    simp only [va_up_self]
  · rw [va_up_ne _ _ h]
    unfold cPC
    simp only [va_up_ne _ _ h]
theorem cPC_1_12 {ci : Nat → Nat} {d : Nat → ClassId} {kd : Nat → Nat} {an : Nat → Nat} {ai : Nat → Nat → Int32} {al : Nat → Nat → Int64} {ar : Nat → Nat → Option Nat} {mX8_rules : Nat → Option Nat} {mX8_axioms : Nat → Option Nat} {mX8_axiomCount : Nat → Int32} {mX8_givens : Nat → Option Nat} {mX8_givenCount : Nat → Int32} {mX8_wanted : Nat → Option Nat} {mX8_rows : Nat → Option Nat} {mX8_rowCount : Nat → Int32} {mX8_looked : Nat → Int32} {mX8_from : Nat → Option Nat} {mX8_needed : Nat → Option Nat} {mX8_broken : Nat → Int32} {mX8_places : Nat → Option Nat} {mX8_text : Nat → Option Nat} {mX8_size : Nat → Int32} {mX9_kind : Nat → Int32} {mX9_a : Nat → Int32} {mX9_b : Nat → Int32} {mX9_c : Nat → Int32} {mX26_rule : Nat → Int32} {mX26_instance : Nat → Int32} {mX26_premises : Nat → Option Nat} {mX26_count : Nat → Int32} {mX26_states : Nat → Option Nat} {mX26_right : Nat → Int32} {mX26_size : Nat → Int32} {mX10_takes : Nat → Int32} {mX10_name : Nat → Option Nat} {mX12_any : Nat → Int32} {mX14_kind : Nat → Int32} {mX16_kind : Nat → Int32} {mX18_first : Nat → Int32} {mX19_either : Nat → Int32} {a : Nat} {v : Option Nat} (hk : kd a = 1) : va_up (cPC ci d kd an ai al ar mX8_rules mX8_axioms mX8_axiomCount mX8_givens mX8_givenCount mX8_wanted mX8_rows mX8_rowCount mX8_looked mX8_from mX8_needed mX8_broken mX8_places mX8_text mX8_size mX9_kind mX9_a mX9_b mX9_c mX26_rule mX26_instance mX26_premises mX26_count mX26_states mX26_right mX26_size mX10_takes mX10_name mX12_any mX14_kind mX16_kind mX18_first mX19_either) a (.inr (ci 0, [va_rf (mX8_rules a), va_rf (mX8_axioms a), .int (mX8_axiomCount a), va_rf (mX8_givens a), .int (mX8_givenCount a), va_rf (mX8_wanted a), va_rf (mX8_rows a), .int (mX8_rowCount a), .int (mX8_looked a), va_rf (mX8_from a), va_rf (mX8_needed a), .int (mX8_broken a), va_rf v, va_rf (mX8_text a), .int (mX8_size a)])) = (cPC ci d kd an ai al ar mX8_rules mX8_axioms mX8_axiomCount mX8_givens mX8_givenCount mX8_wanted mX8_rows mX8_rowCount mX8_looked mX8_from mX8_needed mX8_broken (va_up mX8_places a v) mX8_text mX8_size mX9_kind mX9_a mX9_b mX9_c mX26_rule mX26_instance mX26_premises mX26_count mX26_states mX26_right mX26_size mX10_takes mX10_name mX12_any mX14_kind mX16_kind mX18_first mX19_either) := by
  funext b
  by_cases h : b = a
  · subst h
    rw [va_up_self]
    unfold cPC
    rw [hk]
    simp only [va_up_self]
  · rw [va_up_ne _ _ h]
    unfold cPC
    simp only [va_up_ne _ _ h]
theorem cPC_1_13 {ci : Nat → Nat} {d : Nat → ClassId} {kd : Nat → Nat} {an : Nat → Nat} {ai : Nat → Nat → Int32} {al : Nat → Nat → Int64} {ar : Nat → Nat → Option Nat} {mX8_rules : Nat → Option Nat} {mX8_axioms : Nat → Option Nat} {mX8_axiomCount : Nat → Int32} {mX8_givens : Nat → Option Nat} {mX8_givenCount : Nat → Int32} {mX8_wanted : Nat → Option Nat} {mX8_rows : Nat → Option Nat} {mX8_rowCount : Nat → Int32} {mX8_looked : Nat → Int32} {mX8_from : Nat → Option Nat} {mX8_needed : Nat → Option Nat} {mX8_broken : Nat → Int32} {mX8_places : Nat → Option Nat} {mX8_text : Nat → Option Nat} {mX8_size : Nat → Int32} {mX9_kind : Nat → Int32} {mX9_a : Nat → Int32} {mX9_b : Nat → Int32} {mX9_c : Nat → Int32} {mX26_rule : Nat → Int32} {mX26_instance : Nat → Int32} {mX26_premises : Nat → Option Nat} {mX26_count : Nat → Int32} {mX26_states : Nat → Option Nat} {mX26_right : Nat → Int32} {mX26_size : Nat → Int32} {mX10_takes : Nat → Int32} {mX10_name : Nat → Option Nat} {mX12_any : Nat → Int32} {mX14_kind : Nat → Int32} {mX16_kind : Nat → Int32} {mX18_first : Nat → Int32} {mX19_either : Nat → Int32} {a : Nat} {v : Option Nat} (hk : kd a = 1) : va_up (cPC ci d kd an ai al ar mX8_rules mX8_axioms mX8_axiomCount mX8_givens mX8_givenCount mX8_wanted mX8_rows mX8_rowCount mX8_looked mX8_from mX8_needed mX8_broken mX8_places mX8_text mX8_size mX9_kind mX9_a mX9_b mX9_c mX26_rule mX26_instance mX26_premises mX26_count mX26_states mX26_right mX26_size mX10_takes mX10_name mX12_any mX14_kind mX16_kind mX18_first mX19_either) a (.inr (ci 0, [va_rf (mX8_rules a), va_rf (mX8_axioms a), .int (mX8_axiomCount a), va_rf (mX8_givens a), .int (mX8_givenCount a), va_rf (mX8_wanted a), va_rf (mX8_rows a), .int (mX8_rowCount a), .int (mX8_looked a), va_rf (mX8_from a), va_rf (mX8_needed a), .int (mX8_broken a), va_rf (mX8_places a), va_rf v, .int (mX8_size a)])) = (cPC ci d kd an ai al ar mX8_rules mX8_axioms mX8_axiomCount mX8_givens mX8_givenCount mX8_wanted mX8_rows mX8_rowCount mX8_looked mX8_from mX8_needed mX8_broken mX8_places (va_up mX8_text a v) mX8_size mX9_kind mX9_a mX9_b mX9_c mX26_rule mX26_instance mX26_premises mX26_count mX26_states mX26_right mX26_size mX10_takes mX10_name mX12_any mX14_kind mX16_kind mX18_first mX19_either) := by
  funext b
  by_cases h : b = a
  · subst h
    rw [va_up_self]
    unfold cPC
    rw [hk]
    simp only [va_up_self]
  · rw [va_up_ne _ _ h]
    unfold cPC
    simp only [va_up_ne _ _ h]
theorem cPC_1_14 {ci : Nat → Nat} {d : Nat → ClassId} {kd : Nat → Nat} {an : Nat → Nat} {ai : Nat → Nat → Int32} {al : Nat → Nat → Int64} {ar : Nat → Nat → Option Nat} {mX8_rules : Nat → Option Nat} {mX8_axioms : Nat → Option Nat} {mX8_axiomCount : Nat → Int32} {mX8_givens : Nat → Option Nat} {mX8_givenCount : Nat → Int32} {mX8_wanted : Nat → Option Nat} {mX8_rows : Nat → Option Nat} {mX8_rowCount : Nat → Int32} {mX8_looked : Nat → Int32} {mX8_from : Nat → Option Nat} {mX8_needed : Nat → Option Nat} {mX8_broken : Nat → Int32} {mX8_places : Nat → Option Nat} {mX8_text : Nat → Option Nat} {mX8_size : Nat → Int32} {mX9_kind : Nat → Int32} {mX9_a : Nat → Int32} {mX9_b : Nat → Int32} {mX9_c : Nat → Int32} {mX26_rule : Nat → Int32} {mX26_instance : Nat → Int32} {mX26_premises : Nat → Option Nat} {mX26_count : Nat → Int32} {mX26_states : Nat → Option Nat} {mX26_right : Nat → Int32} {mX26_size : Nat → Int32} {mX10_takes : Nat → Int32} {mX10_name : Nat → Option Nat} {mX12_any : Nat → Int32} {mX14_kind : Nat → Int32} {mX16_kind : Nat → Int32} {mX18_first : Nat → Int32} {mX19_either : Nat → Int32} {a : Nat} {v : Int32} (hk : kd a = 1) : va_up (cPC ci d kd an ai al ar mX8_rules mX8_axioms mX8_axiomCount mX8_givens mX8_givenCount mX8_wanted mX8_rows mX8_rowCount mX8_looked mX8_from mX8_needed mX8_broken mX8_places mX8_text mX8_size mX9_kind mX9_a mX9_b mX9_c mX26_rule mX26_instance mX26_premises mX26_count mX26_states mX26_right mX26_size mX10_takes mX10_name mX12_any mX14_kind mX16_kind mX18_first mX19_either) a (.inr (ci 0, [va_rf (mX8_rules a), va_rf (mX8_axioms a), .int (mX8_axiomCount a), va_rf (mX8_givens a), .int (mX8_givenCount a), va_rf (mX8_wanted a), va_rf (mX8_rows a), .int (mX8_rowCount a), .int (mX8_looked a), va_rf (mX8_from a), va_rf (mX8_needed a), .int (mX8_broken a), va_rf (mX8_places a), va_rf (mX8_text a), .int v])) = (cPC ci d kd an ai al ar mX8_rules mX8_axioms mX8_axiomCount mX8_givens mX8_givenCount mX8_wanted mX8_rows mX8_rowCount mX8_looked mX8_from mX8_needed mX8_broken mX8_places mX8_text (va_up mX8_size a v) mX9_kind mX9_a mX9_b mX9_c mX26_rule mX26_instance mX26_premises mX26_count mX26_states mX26_right mX26_size mX10_takes mX10_name mX12_any mX14_kind mX16_kind mX18_first mX19_either) := by
  funext b
  by_cases h : b = a
  · subst h
    rw [va_up_self]
    unfold cPC
    rw [hk]
    simp only [va_up_self]
  · rw [va_up_ne _ _ h]
    unfold cPC
    simp only [va_up_ne _ _ h]
theorem cPC_1_n {ci : Nat → Nat} {d : Nat → ClassId} {kd : Nat → Nat} {an : Nat → Nat} {ai : Nat → Nat → Int32} {al : Nat → Nat → Int64} {ar : Nat → Nat → Option Nat} {mX8_rules : Nat → Option Nat} {mX8_axioms : Nat → Option Nat} {mX8_axiomCount : Nat → Int32} {mX8_givens : Nat → Option Nat} {mX8_givenCount : Nat → Int32} {mX8_wanted : Nat → Option Nat} {mX8_rows : Nat → Option Nat} {mX8_rowCount : Nat → Int32} {mX8_looked : Nat → Int32} {mX8_from : Nat → Option Nat} {mX8_needed : Nat → Option Nat} {mX8_broken : Nat → Int32} {mX8_places : Nat → Option Nat} {mX8_text : Nat → Option Nat} {mX8_size : Nat → Int32} {mX9_kind : Nat → Int32} {mX9_a : Nat → Int32} {mX9_b : Nat → Int32} {mX9_c : Nat → Int32} {mX26_rule : Nat → Int32} {mX26_instance : Nat → Int32} {mX26_premises : Nat → Option Nat} {mX26_count : Nat → Int32} {mX26_states : Nat → Option Nat} {mX26_right : Nat → Int32} {mX26_size : Nat → Int32} {mX10_takes : Nat → Int32} {mX10_name : Nat → Option Nat} {mX12_any : Nat → Int32} {mX14_kind : Nat → Int32} {mX16_kind : Nat → Int32} {mX18_first : Nat → Int32} {mX19_either : Nat → Int32} (q : Nat) : va_up (cPC ci d kd an ai al ar mX8_rules mX8_axioms mX8_axiomCount mX8_givens mX8_givenCount mX8_wanted mX8_rows mX8_rowCount mX8_looked mX8_from mX8_needed mX8_broken mX8_places mX8_text mX8_size mX9_kind mX9_a mX9_b mX9_c mX26_rule mX26_instance mX26_premises mX26_count mX26_states mX26_right mX26_size mX10_takes mX10_name mX12_any mX14_kind mX16_kind mX18_first mX19_either) q (.inr (ci 0, [va_rf none, va_rf none, .int 0, va_rf none, .int 0, va_rf none, va_rf none, .int 0, .int 0, va_rf none, va_rf none, .int 0, va_rf none, va_rf none, .int 0])) = (cPC ci d (va_up kd q 1) an ai al ar (va_up mX8_rules q none) (va_up mX8_axioms q none) (va_up mX8_axiomCount q 0) (va_up mX8_givens q none) (va_up mX8_givenCount q 0) (va_up mX8_wanted q none) (va_up mX8_rows q none) (va_up mX8_rowCount q 0) (va_up mX8_looked q 0) (va_up mX8_from q none) (va_up mX8_needed q none) (va_up mX8_broken q 0) (va_up mX8_places q none) (va_up mX8_text q none) (va_up mX8_size q 0) mX9_kind mX9_a mX9_b mX9_c mX26_rule mX26_instance mX26_premises mX26_count mX26_states mX26_right mX26_size mX10_takes mX10_name mX12_any mX14_kind mX16_kind mX18_first mX19_either) := by
  funext b
  by_cases h : b = q
  · subst h
    rw [va_up_self]
    unfold cPC
    simp only [va_up_self]
  · rw [va_up_ne _ _ h]
    unfold cPC
    simp only [va_up_ne _ _ h]
theorem cPC_2 {ci : Nat → Nat} {d : Nat → ClassId} {kd : Nat → Nat} {an : Nat → Nat} {ai : Nat → Nat → Int32} {al : Nat → Nat → Int64} {ar : Nat → Nat → Option Nat} {mX8_rules : Nat → Option Nat} {mX8_axioms : Nat → Option Nat} {mX8_axiomCount : Nat → Int32} {mX8_givens : Nat → Option Nat} {mX8_givenCount : Nat → Int32} {mX8_wanted : Nat → Option Nat} {mX8_rows : Nat → Option Nat} {mX8_rowCount : Nat → Int32} {mX8_looked : Nat → Int32} {mX8_from : Nat → Option Nat} {mX8_needed : Nat → Option Nat} {mX8_broken : Nat → Int32} {mX8_places : Nat → Option Nat} {mX8_text : Nat → Option Nat} {mX8_size : Nat → Int32} {mX9_kind : Nat → Int32} {mX9_a : Nat → Int32} {mX9_b : Nat → Int32} {mX9_c : Nat → Int32} {mX26_rule : Nat → Int32} {mX26_instance : Nat → Int32} {mX26_premises : Nat → Option Nat} {mX26_count : Nat → Int32} {mX26_states : Nat → Option Nat} {mX26_right : Nat → Int32} {mX26_size : Nat → Int32} {mX10_takes : Nat → Int32} {mX10_name : Nat → Option Nat} {mX12_any : Nat → Int32} {mX14_kind : Nat → Int32} {mX16_kind : Nat → Int32} {mX18_first : Nat → Int32} {mX19_either : Nat → Int32} {a : Nat} (hk : kd a = 2) : (cPC ci d kd an ai al ar mX8_rules mX8_axioms mX8_axiomCount mX8_givens mX8_givenCount mX8_wanted mX8_rows mX8_rowCount mX8_looked mX8_from mX8_needed mX8_broken mX8_places mX8_text mX8_size mX9_kind mX9_a mX9_b mX9_c mX26_rule mX26_instance mX26_premises mX26_count mX26_states mX26_right mX26_size mX10_takes mX10_name mX12_any mX14_kind mX16_kind mX18_first mX19_either) a = .inr (ci 1, [.int (mX9_kind a), .int (mX9_a a), .int (mX9_b a), .int (mX9_c a)]) := by unfold cPC; simp only [hk]
theorem cPC_2_0 {ci : Nat → Nat} {d : Nat → ClassId} {kd : Nat → Nat} {an : Nat → Nat} {ai : Nat → Nat → Int32} {al : Nat → Nat → Int64} {ar : Nat → Nat → Option Nat} {mX8_rules : Nat → Option Nat} {mX8_axioms : Nat → Option Nat} {mX8_axiomCount : Nat → Int32} {mX8_givens : Nat → Option Nat} {mX8_givenCount : Nat → Int32} {mX8_wanted : Nat → Option Nat} {mX8_rows : Nat → Option Nat} {mX8_rowCount : Nat → Int32} {mX8_looked : Nat → Int32} {mX8_from : Nat → Option Nat} {mX8_needed : Nat → Option Nat} {mX8_broken : Nat → Int32} {mX8_places : Nat → Option Nat} {mX8_text : Nat → Option Nat} {mX8_size : Nat → Int32} {mX9_kind : Nat → Int32} {mX9_a : Nat → Int32} {mX9_b : Nat → Int32} {mX9_c : Nat → Int32} {mX26_rule : Nat → Int32} {mX26_instance : Nat → Int32} {mX26_premises : Nat → Option Nat} {mX26_count : Nat → Int32} {mX26_states : Nat → Option Nat} {mX26_right : Nat → Int32} {mX26_size : Nat → Int32} {mX10_takes : Nat → Int32} {mX10_name : Nat → Option Nat} {mX12_any : Nat → Int32} {mX14_kind : Nat → Int32} {mX16_kind : Nat → Int32} {mX18_first : Nat → Int32} {mX19_either : Nat → Int32} {a : Nat} {v : Int32} (hk : kd a = 2) : va_up (cPC ci d kd an ai al ar mX8_rules mX8_axioms mX8_axiomCount mX8_givens mX8_givenCount mX8_wanted mX8_rows mX8_rowCount mX8_looked mX8_from mX8_needed mX8_broken mX8_places mX8_text mX8_size mX9_kind mX9_a mX9_b mX9_c mX26_rule mX26_instance mX26_premises mX26_count mX26_states mX26_right mX26_size mX10_takes mX10_name mX12_any mX14_kind mX16_kind mX18_first mX19_either) a (.inr (ci 1, [.int v, .int (mX9_a a), .int (mX9_b a), .int (mX9_c a)])) = (cPC ci d kd an ai al ar mX8_rules mX8_axioms mX8_axiomCount mX8_givens mX8_givenCount mX8_wanted mX8_rows mX8_rowCount mX8_looked mX8_from mX8_needed mX8_broken mX8_places mX8_text mX8_size (va_up mX9_kind a v) mX9_a mX9_b mX9_c mX26_rule mX26_instance mX26_premises mX26_count mX26_states mX26_right mX26_size mX10_takes mX10_name mX12_any mX14_kind mX16_kind mX18_first mX19_either) := by
  funext b
  by_cases h : b = a
  · subst h
    rw [va_up_self]
    unfold cPC
    rw [hk]
    simp only [va_up_self]
  · rw [va_up_ne _ _ h]
    unfold cPC
    simp only [va_up_ne _ _ h]
theorem cPC_2_1 {ci : Nat → Nat} {d : Nat → ClassId} {kd : Nat → Nat} {an : Nat → Nat} {ai : Nat → Nat → Int32} {al : Nat → Nat → Int64} {ar : Nat → Nat → Option Nat} {mX8_rules : Nat → Option Nat} {mX8_axioms : Nat → Option Nat} {mX8_axiomCount : Nat → Int32} {mX8_givens : Nat → Option Nat} {mX8_givenCount : Nat → Int32} {mX8_wanted : Nat → Option Nat} {mX8_rows : Nat → Option Nat} {mX8_rowCount : Nat → Int32} {mX8_looked : Nat → Int32} {mX8_from : Nat → Option Nat} {mX8_needed : Nat → Option Nat} {mX8_broken : Nat → Int32} {mX8_places : Nat → Option Nat} {mX8_text : Nat → Option Nat} {mX8_size : Nat → Int32} {mX9_kind : Nat → Int32} {mX9_a : Nat → Int32} {mX9_b : Nat → Int32} {mX9_c : Nat → Int32} {mX26_rule : Nat → Int32} {mX26_instance : Nat → Int32} {mX26_premises : Nat → Option Nat} {mX26_count : Nat → Int32} {mX26_states : Nat → Option Nat} {mX26_right : Nat → Int32} {mX26_size : Nat → Int32} {mX10_takes : Nat → Int32} {mX10_name : Nat → Option Nat} {mX12_any : Nat → Int32} {mX14_kind : Nat → Int32} {mX16_kind : Nat → Int32} {mX18_first : Nat → Int32} {mX19_either : Nat → Int32} {a : Nat} {v : Int32} (hk : kd a = 2) : va_up (cPC ci d kd an ai al ar mX8_rules mX8_axioms mX8_axiomCount mX8_givens mX8_givenCount mX8_wanted mX8_rows mX8_rowCount mX8_looked mX8_from mX8_needed mX8_broken mX8_places mX8_text mX8_size mX9_kind mX9_a mX9_b mX9_c mX26_rule mX26_instance mX26_premises mX26_count mX26_states mX26_right mX26_size mX10_takes mX10_name mX12_any mX14_kind mX16_kind mX18_first mX19_either) a (.inr (ci 1, [.int (mX9_kind a), .int v, .int (mX9_b a), .int (mX9_c a)])) = (cPC ci d kd an ai al ar mX8_rules mX8_axioms mX8_axiomCount mX8_givens mX8_givenCount mX8_wanted mX8_rows mX8_rowCount mX8_looked mX8_from mX8_needed mX8_broken mX8_places mX8_text mX8_size mX9_kind (va_up mX9_a a v) mX9_b mX9_c mX26_rule mX26_instance mX26_premises mX26_count mX26_states mX26_right mX26_size mX10_takes mX10_name mX12_any mX14_kind mX16_kind mX18_first mX19_either) := by
  funext b
  by_cases h : b = a
  · subst h
    rw [va_up_self]
    unfold cPC
    rw [hk]
    simp only [va_up_self]
  · rw [va_up_ne _ _ h]
    unfold cPC
    simp only [va_up_ne _ _ h]
theorem cPC_2_2 {ci : Nat → Nat} {d : Nat → ClassId} {kd : Nat → Nat} {an : Nat → Nat} {ai : Nat → Nat → Int32} {al : Nat → Nat → Int64} {ar : Nat → Nat → Option Nat} {mX8_rules : Nat → Option Nat} {mX8_axioms : Nat → Option Nat} {mX8_axiomCount : Nat → Int32} {mX8_givens : Nat → Option Nat} {mX8_givenCount : Nat → Int32} {mX8_wanted : Nat → Option Nat} {mX8_rows : Nat → Option Nat} {mX8_rowCount : Nat → Int32} {mX8_looked : Nat → Int32} {mX8_from : Nat → Option Nat} {mX8_needed : Nat → Option Nat} {mX8_broken : Nat → Int32} {mX8_places : Nat → Option Nat} {mX8_text : Nat → Option Nat} {mX8_size : Nat → Int32} {mX9_kind : Nat → Int32} {mX9_a : Nat → Int32} {mX9_b : Nat → Int32} {mX9_c : Nat → Int32} {mX26_rule : Nat → Int32} {mX26_instance : Nat → Int32} {mX26_premises : Nat → Option Nat} {mX26_count : Nat → Int32} {mX26_states : Nat → Option Nat} {mX26_right : Nat → Int32} {mX26_size : Nat → Int32} {mX10_takes : Nat → Int32} {mX10_name : Nat → Option Nat} {mX12_any : Nat → Int32} {mX14_kind : Nat → Int32} {mX16_kind : Nat → Int32} {mX18_first : Nat → Int32} {mX19_either : Nat → Int32} {a : Nat} {v : Int32} (hk : kd a = 2) : va_up (cPC ci d kd an ai al ar mX8_rules mX8_axioms mX8_axiomCount mX8_givens mX8_givenCount mX8_wanted mX8_rows mX8_rowCount mX8_looked mX8_from mX8_needed mX8_broken mX8_places mX8_text mX8_size mX9_kind mX9_a mX9_b mX9_c mX26_rule mX26_instance mX26_premises mX26_count mX26_states mX26_right mX26_size mX10_takes mX10_name mX12_any mX14_kind mX16_kind mX18_first mX19_either) a (.inr (ci 1, [.int (mX9_kind a), .int (mX9_a a), .int v, .int (mX9_c a)])) = (cPC ci d kd an ai al ar mX8_rules mX8_axioms mX8_axiomCount mX8_givens mX8_givenCount mX8_wanted mX8_rows mX8_rowCount mX8_looked mX8_from mX8_needed mX8_broken mX8_places mX8_text mX8_size mX9_kind mX9_a (va_up mX9_b a v) mX9_c mX26_rule mX26_instance mX26_premises mX26_count mX26_states mX26_right mX26_size mX10_takes mX10_name mX12_any mX14_kind mX16_kind mX18_first mX19_either) := by
  funext b
  by_cases h : b = a
  · subst h
    rw [va_up_self]
    unfold cPC
    rw [hk]
    simp only [va_up_self]
  · rw [va_up_ne _ _ h]
    unfold cPC
    simp only [va_up_ne _ _ h]
theorem cPC_2_3 {ci : Nat → Nat} {d : Nat → ClassId} {kd : Nat → Nat} {an : Nat → Nat} {ai : Nat → Nat → Int32} {al : Nat → Nat → Int64} {ar : Nat → Nat → Option Nat} {mX8_rules : Nat → Option Nat} {mX8_axioms : Nat → Option Nat} {mX8_axiomCount : Nat → Int32} {mX8_givens : Nat → Option Nat} {mX8_givenCount : Nat → Int32} {mX8_wanted : Nat → Option Nat} {mX8_rows : Nat → Option Nat} {mX8_rowCount : Nat → Int32} {mX8_looked : Nat → Int32} {mX8_from : Nat → Option Nat} {mX8_needed : Nat → Option Nat} {mX8_broken : Nat → Int32} {mX8_places : Nat → Option Nat} {mX8_text : Nat → Option Nat} {mX8_size : Nat → Int32} {mX9_kind : Nat → Int32} {mX9_a : Nat → Int32} {mX9_b : Nat → Int32} {mX9_c : Nat → Int32} {mX26_rule : Nat → Int32} {mX26_instance : Nat → Int32} {mX26_premises : Nat → Option Nat} {mX26_count : Nat → Int32} {mX26_states : Nat → Option Nat} {mX26_right : Nat → Int32} {mX26_size : Nat → Int32} {mX10_takes : Nat → Int32} {mX10_name : Nat → Option Nat} {mX12_any : Nat → Int32} {mX14_kind : Nat → Int32} {mX16_kind : Nat → Int32} {mX18_first : Nat → Int32} {mX19_either : Nat → Int32} {a : Nat} {v : Int32} (hk : kd a = 2) : va_up (cPC ci d kd an ai al ar mX8_rules mX8_axioms mX8_axiomCount mX8_givens mX8_givenCount mX8_wanted mX8_rows mX8_rowCount mX8_looked mX8_from mX8_needed mX8_broken mX8_places mX8_text mX8_size mX9_kind mX9_a mX9_b mX9_c mX26_rule mX26_instance mX26_premises mX26_count mX26_states mX26_right mX26_size mX10_takes mX10_name mX12_any mX14_kind mX16_kind mX18_first mX19_either) a (.inr (ci 1, [.int (mX9_kind a), .int (mX9_a a), .int (mX9_b a), .int v])) = (cPC ci d kd an ai al ar mX8_rules mX8_axioms mX8_axiomCount mX8_givens mX8_givenCount mX8_wanted mX8_rows mX8_rowCount mX8_looked mX8_from mX8_needed mX8_broken mX8_places mX8_text mX8_size mX9_kind mX9_a mX9_b (va_up mX9_c a v) mX26_rule mX26_instance mX26_premises mX26_count mX26_states mX26_right mX26_size mX10_takes mX10_name mX12_any mX14_kind mX16_kind mX18_first mX19_either) := by
  funext b
  by_cases h : b = a
  · subst h
    rw [va_up_self]
    unfold cPC
    rw [hk]
    simp only [va_up_self]
  · rw [va_up_ne _ _ h]
    unfold cPC
    simp only [va_up_ne _ _ h]
theorem cPC_2_n {ci : Nat → Nat} {d : Nat → ClassId} {kd : Nat → Nat} {an : Nat → Nat} {ai : Nat → Nat → Int32} {al : Nat → Nat → Int64} {ar : Nat → Nat → Option Nat} {mX8_rules : Nat → Option Nat} {mX8_axioms : Nat → Option Nat} {mX8_axiomCount : Nat → Int32} {mX8_givens : Nat → Option Nat} {mX8_givenCount : Nat → Int32} {mX8_wanted : Nat → Option Nat} {mX8_rows : Nat → Option Nat} {mX8_rowCount : Nat → Int32} {mX8_looked : Nat → Int32} {mX8_from : Nat → Option Nat} {mX8_needed : Nat → Option Nat} {mX8_broken : Nat → Int32} {mX8_places : Nat → Option Nat} {mX8_text : Nat → Option Nat} {mX8_size : Nat → Int32} {mX9_kind : Nat → Int32} {mX9_a : Nat → Int32} {mX9_b : Nat → Int32} {mX9_c : Nat → Int32} {mX26_rule : Nat → Int32} {mX26_instance : Nat → Int32} {mX26_premises : Nat → Option Nat} {mX26_count : Nat → Int32} {mX26_states : Nat → Option Nat} {mX26_right : Nat → Int32} {mX26_size : Nat → Int32} {mX10_takes : Nat → Int32} {mX10_name : Nat → Option Nat} {mX12_any : Nat → Int32} {mX14_kind : Nat → Int32} {mX16_kind : Nat → Int32} {mX18_first : Nat → Int32} {mX19_either : Nat → Int32} (q : Nat) : va_up (cPC ci d kd an ai al ar mX8_rules mX8_axioms mX8_axiomCount mX8_givens mX8_givenCount mX8_wanted mX8_rows mX8_rowCount mX8_looked mX8_from mX8_needed mX8_broken mX8_places mX8_text mX8_size mX9_kind mX9_a mX9_b mX9_c mX26_rule mX26_instance mX26_premises mX26_count mX26_states mX26_right mX26_size mX10_takes mX10_name mX12_any mX14_kind mX16_kind mX18_first mX19_either) q (.inr (ci 1, [.int 0, .int 0, .int 0, .int 0])) = (cPC ci d (va_up kd q 2) an ai al ar mX8_rules mX8_axioms mX8_axiomCount mX8_givens mX8_givenCount mX8_wanted mX8_rows mX8_rowCount mX8_looked mX8_from mX8_needed mX8_broken mX8_places mX8_text mX8_size (va_up mX9_kind q 0) (va_up mX9_a q 0) (va_up mX9_b q 0) (va_up mX9_c q 0) mX26_rule mX26_instance mX26_premises mX26_count mX26_states mX26_right mX26_size mX10_takes mX10_name mX12_any mX14_kind mX16_kind mX18_first mX19_either) := by
  funext b
  by_cases h : b = q
  · subst h
    rw [va_up_self]
    unfold cPC
    simp only [va_up_self]
  · rw [va_up_ne _ _ h]
    unfold cPC
    simp only [va_up_ne _ _ h]
theorem cPC_3 {ci : Nat → Nat} {d : Nat → ClassId} {kd : Nat → Nat} {an : Nat → Nat} {ai : Nat → Nat → Int32} {al : Nat → Nat → Int64} {ar : Nat → Nat → Option Nat} {mX8_rules : Nat → Option Nat} {mX8_axioms : Nat → Option Nat} {mX8_axiomCount : Nat → Int32} {mX8_givens : Nat → Option Nat} {mX8_givenCount : Nat → Int32} {mX8_wanted : Nat → Option Nat} {mX8_rows : Nat → Option Nat} {mX8_rowCount : Nat → Int32} {mX8_looked : Nat → Int32} {mX8_from : Nat → Option Nat} {mX8_needed : Nat → Option Nat} {mX8_broken : Nat → Int32} {mX8_places : Nat → Option Nat} {mX8_text : Nat → Option Nat} {mX8_size : Nat → Int32} {mX9_kind : Nat → Int32} {mX9_a : Nat → Int32} {mX9_b : Nat → Int32} {mX9_c : Nat → Int32} {mX26_rule : Nat → Int32} {mX26_instance : Nat → Int32} {mX26_premises : Nat → Option Nat} {mX26_count : Nat → Int32} {mX26_states : Nat → Option Nat} {mX26_right : Nat → Int32} {mX26_size : Nat → Int32} {mX10_takes : Nat → Int32} {mX10_name : Nat → Option Nat} {mX12_any : Nat → Int32} {mX14_kind : Nat → Int32} {mX16_kind : Nat → Int32} {mX18_first : Nat → Int32} {mX19_either : Nat → Int32} {a : Nat} (hk : kd a = 3) : (cPC ci d kd an ai al ar mX8_rules mX8_axioms mX8_axiomCount mX8_givens mX8_givenCount mX8_wanted mX8_rows mX8_rowCount mX8_looked mX8_from mX8_needed mX8_broken mX8_places mX8_text mX8_size mX9_kind mX9_a mX9_b mX9_c mX26_rule mX26_instance mX26_premises mX26_count mX26_states mX26_right mX26_size mX10_takes mX10_name mX12_any mX14_kind mX16_kind mX18_first mX19_either) a = .inr (ci 2, [.int (mX26_rule a), .int (mX26_instance a), va_rf (mX26_premises a), .int (mX26_count a), va_rf (mX26_states a), .int (mX26_right a), .int (mX26_size a)]) := by unfold cPC; simp only [hk]
theorem cPC_3_0 {ci : Nat → Nat} {d : Nat → ClassId} {kd : Nat → Nat} {an : Nat → Nat} {ai : Nat → Nat → Int32} {al : Nat → Nat → Int64} {ar : Nat → Nat → Option Nat} {mX8_rules : Nat → Option Nat} {mX8_axioms : Nat → Option Nat} {mX8_axiomCount : Nat → Int32} {mX8_givens : Nat → Option Nat} {mX8_givenCount : Nat → Int32} {mX8_wanted : Nat → Option Nat} {mX8_rows : Nat → Option Nat} {mX8_rowCount : Nat → Int32} {mX8_looked : Nat → Int32} {mX8_from : Nat → Option Nat} {mX8_needed : Nat → Option Nat} {mX8_broken : Nat → Int32} {mX8_places : Nat → Option Nat} {mX8_text : Nat → Option Nat} {mX8_size : Nat → Int32} {mX9_kind : Nat → Int32} {mX9_a : Nat → Int32} {mX9_b : Nat → Int32} {mX9_c : Nat → Int32} {mX26_rule : Nat → Int32} {mX26_instance : Nat → Int32} {mX26_premises : Nat → Option Nat} {mX26_count : Nat → Int32} {mX26_states : Nat → Option Nat} {mX26_right : Nat → Int32} {mX26_size : Nat → Int32} {mX10_takes : Nat → Int32} {mX10_name : Nat → Option Nat} {mX12_any : Nat → Int32} {mX14_kind : Nat → Int32} {mX16_kind : Nat → Int32} {mX18_first : Nat → Int32} {mX19_either : Nat → Int32} {a : Nat} {v : Int32} (hk : kd a = 3) : va_up (cPC ci d kd an ai al ar mX8_rules mX8_axioms mX8_axiomCount mX8_givens mX8_givenCount mX8_wanted mX8_rows mX8_rowCount mX8_looked mX8_from mX8_needed mX8_broken mX8_places mX8_text mX8_size mX9_kind mX9_a mX9_b mX9_c mX26_rule mX26_instance mX26_premises mX26_count mX26_states mX26_right mX26_size mX10_takes mX10_name mX12_any mX14_kind mX16_kind mX18_first mX19_either) a (.inr (ci 2, [.int v, .int (mX26_instance a), va_rf (mX26_premises a), .int (mX26_count a), va_rf (mX26_states a), .int (mX26_right a), .int (mX26_size a)])) = (cPC ci d kd an ai al ar mX8_rules mX8_axioms mX8_axiomCount mX8_givens mX8_givenCount mX8_wanted mX8_rows mX8_rowCount mX8_looked mX8_from mX8_needed mX8_broken mX8_places mX8_text mX8_size mX9_kind mX9_a mX9_b mX9_c (va_up mX26_rule a v) mX26_instance mX26_premises mX26_count mX26_states mX26_right mX26_size mX10_takes mX10_name mX12_any mX14_kind mX16_kind mX18_first mX19_either) := by
  funext b
  by_cases h : b = a
  · subst h
    rw [va_up_self]
    unfold cPC
    rw [hk]
    simp only [va_up_self]
  · rw [va_up_ne _ _ h]
    unfold cPC
    simp only [va_up_ne _ _ h]
theorem cPC_3_1 {ci : Nat → Nat} {d : Nat → ClassId} {kd : Nat → Nat} {an : Nat → Nat} {ai : Nat → Nat → Int32} {al : Nat → Nat → Int64} {ar : Nat → Nat → Option Nat} {mX8_rules : Nat → Option Nat} {mX8_axioms : Nat → Option Nat} {mX8_axiomCount : Nat → Int32} {mX8_givens : Nat → Option Nat} {mX8_givenCount : Nat → Int32} {mX8_wanted : Nat → Option Nat} {mX8_rows : Nat → Option Nat} {mX8_rowCount : Nat → Int32} {mX8_looked : Nat → Int32} {mX8_from : Nat → Option Nat} {mX8_needed : Nat → Option Nat} {mX8_broken : Nat → Int32} {mX8_places : Nat → Option Nat} {mX8_text : Nat → Option Nat} {mX8_size : Nat → Int32} {mX9_kind : Nat → Int32} {mX9_a : Nat → Int32} {mX9_b : Nat → Int32} {mX9_c : Nat → Int32} {mX26_rule : Nat → Int32} {mX26_instance : Nat → Int32} {mX26_premises : Nat → Option Nat} {mX26_count : Nat → Int32} {mX26_states : Nat → Option Nat} {mX26_right : Nat → Int32} {mX26_size : Nat → Int32} {mX10_takes : Nat → Int32} {mX10_name : Nat → Option Nat} {mX12_any : Nat → Int32} {mX14_kind : Nat → Int32} {mX16_kind : Nat → Int32} {mX18_first : Nat → Int32} {mX19_either : Nat → Int32} {a : Nat} {v : Int32} (hk : kd a = 3) : va_up (cPC ci d kd an ai al ar mX8_rules mX8_axioms mX8_axiomCount mX8_givens mX8_givenCount mX8_wanted mX8_rows mX8_rowCount mX8_looked mX8_from mX8_needed mX8_broken mX8_places mX8_text mX8_size mX9_kind mX9_a mX9_b mX9_c mX26_rule mX26_instance mX26_premises mX26_count mX26_states mX26_right mX26_size mX10_takes mX10_name mX12_any mX14_kind mX16_kind mX18_first mX19_either) a (.inr (ci 2, [.int (mX26_rule a), .int v, va_rf (mX26_premises a), .int (mX26_count a), va_rf (mX26_states a), .int (mX26_right a), .int (mX26_size a)])) = (cPC ci d kd an ai al ar mX8_rules mX8_axioms mX8_axiomCount mX8_givens mX8_givenCount mX8_wanted mX8_rows mX8_rowCount mX8_looked mX8_from mX8_needed mX8_broken mX8_places mX8_text mX8_size mX9_kind mX9_a mX9_b mX9_c mX26_rule (va_up mX26_instance a v) mX26_premises mX26_count mX26_states mX26_right mX26_size mX10_takes mX10_name mX12_any mX14_kind mX16_kind mX18_first mX19_either) := by
  funext b
  by_cases h : b = a
  · subst h
    rw [va_up_self]
    unfold cPC
    rw [hk]
    simp only [va_up_self]
  · rw [va_up_ne _ _ h]
    unfold cPC
    simp only [va_up_ne _ _ h]
theorem cPC_3_2 {ci : Nat → Nat} {d : Nat → ClassId} {kd : Nat → Nat} {an : Nat → Nat} {ai : Nat → Nat → Int32} {al : Nat → Nat → Int64} {ar : Nat → Nat → Option Nat} {mX8_rules : Nat → Option Nat} {mX8_axioms : Nat → Option Nat} {mX8_axiomCount : Nat → Int32} {mX8_givens : Nat → Option Nat} {mX8_givenCount : Nat → Int32} {mX8_wanted : Nat → Option Nat} {mX8_rows : Nat → Option Nat} {mX8_rowCount : Nat → Int32} {mX8_looked : Nat → Int32} {mX8_from : Nat → Option Nat} {mX8_needed : Nat → Option Nat} {mX8_broken : Nat → Int32} {mX8_places : Nat → Option Nat} {mX8_text : Nat → Option Nat} {mX8_size : Nat → Int32} {mX9_kind : Nat → Int32} {mX9_a : Nat → Int32} {mX9_b : Nat → Int32} {mX9_c : Nat → Int32} {mX26_rule : Nat → Int32} {mX26_instance : Nat → Int32} {mX26_premises : Nat → Option Nat} {mX26_count : Nat → Int32} {mX26_states : Nat → Option Nat} {mX26_right : Nat → Int32} {mX26_size : Nat → Int32} {mX10_takes : Nat → Int32} {mX10_name : Nat → Option Nat} {mX12_any : Nat → Int32} {mX14_kind : Nat → Int32} {mX16_kind : Nat → Int32} {mX18_first : Nat → Int32} {mX19_either : Nat → Int32} {a : Nat} {v : Option Nat} (hk : kd a = 3) : va_up (cPC ci d kd an ai al ar mX8_rules mX8_axioms mX8_axiomCount mX8_givens mX8_givenCount mX8_wanted mX8_rows mX8_rowCount mX8_looked mX8_from mX8_needed mX8_broken mX8_places mX8_text mX8_size mX9_kind mX9_a mX9_b mX9_c mX26_rule mX26_instance mX26_premises mX26_count mX26_states mX26_right mX26_size mX10_takes mX10_name mX12_any mX14_kind mX16_kind mX18_first mX19_either) a (.inr (ci 2, [.int (mX26_rule a), .int (mX26_instance a), va_rf v, .int (mX26_count a), va_rf (mX26_states a), .int (mX26_right a), .int (mX26_size a)])) = (cPC ci d kd an ai al ar mX8_rules mX8_axioms mX8_axiomCount mX8_givens mX8_givenCount mX8_wanted mX8_rows mX8_rowCount mX8_looked mX8_from mX8_needed mX8_broken mX8_places mX8_text mX8_size mX9_kind mX9_a mX9_b mX9_c mX26_rule mX26_instance (va_up mX26_premises a v) mX26_count mX26_states mX26_right mX26_size mX10_takes mX10_name mX12_any mX14_kind mX16_kind mX18_first mX19_either) := by
  funext b
  by_cases h : b = a
  · subst h
    rw [va_up_self]
    unfold cPC
    rw [hk]
    simp only [va_up_self]
  · rw [va_up_ne _ _ h]
    unfold cPC
    simp only [va_up_ne _ _ h]
theorem cPC_3_3 {ci : Nat → Nat} {d : Nat → ClassId} {kd : Nat → Nat} {an : Nat → Nat} {ai : Nat → Nat → Int32} {al : Nat → Nat → Int64} {ar : Nat → Nat → Option Nat} {mX8_rules : Nat → Option Nat} {mX8_axioms : Nat → Option Nat} {mX8_axiomCount : Nat → Int32} {mX8_givens : Nat → Option Nat} {mX8_givenCount : Nat → Int32} {mX8_wanted : Nat → Option Nat} {mX8_rows : Nat → Option Nat} {mX8_rowCount : Nat → Int32} {mX8_looked : Nat → Int32} {mX8_from : Nat → Option Nat} {mX8_needed : Nat → Option Nat} {mX8_broken : Nat → Int32} {mX8_places : Nat → Option Nat} {mX8_text : Nat → Option Nat} {mX8_size : Nat → Int32} {mX9_kind : Nat → Int32} {mX9_a : Nat → Int32} {mX9_b : Nat → Int32} {mX9_c : Nat → Int32} {mX26_rule : Nat → Int32} {mX26_instance : Nat → Int32} {mX26_premises : Nat → Option Nat} {mX26_count : Nat → Int32} {mX26_states : Nat → Option Nat} {mX26_right : Nat → Int32} {mX26_size : Nat → Int32} {mX10_takes : Nat → Int32} {mX10_name : Nat → Option Nat} {mX12_any : Nat → Int32} {mX14_kind : Nat → Int32} {mX16_kind : Nat → Int32} {mX18_first : Nat → Int32} {mX19_either : Nat → Int32} {a : Nat} {v : Int32} (hk : kd a = 3) : va_up (cPC ci d kd an ai al ar mX8_rules mX8_axioms mX8_axiomCount mX8_givens mX8_givenCount mX8_wanted mX8_rows mX8_rowCount mX8_looked mX8_from mX8_needed mX8_broken mX8_places mX8_text mX8_size mX9_kind mX9_a mX9_b mX9_c mX26_rule mX26_instance mX26_premises mX26_count mX26_states mX26_right mX26_size mX10_takes mX10_name mX12_any mX14_kind mX16_kind mX18_first mX19_either) a (.inr (ci 2, [.int (mX26_rule a), .int (mX26_instance a), va_rf (mX26_premises a), .int v, va_rf (mX26_states a), .int (mX26_right a), .int (mX26_size a)])) = (cPC ci d kd an ai al ar mX8_rules mX8_axioms mX8_axiomCount mX8_givens mX8_givenCount mX8_wanted mX8_rows mX8_rowCount mX8_looked mX8_from mX8_needed mX8_broken mX8_places mX8_text mX8_size mX9_kind mX9_a mX9_b mX9_c mX26_rule mX26_instance mX26_premises (va_up mX26_count a v) mX26_states mX26_right mX26_size mX10_takes mX10_name mX12_any mX14_kind mX16_kind mX18_first mX19_either) := by
  funext b
  by_cases h : b = a
  · subst h
    rw [va_up_self]
    unfold cPC
    rw [hk]
    simp only [va_up_self]
  · rw [va_up_ne _ _ h]
    unfold cPC
    simp only [va_up_ne _ _ h]
theorem cPC_3_4 {ci : Nat → Nat} {d : Nat → ClassId} {kd : Nat → Nat} {an : Nat → Nat} {ai : Nat → Nat → Int32} {al : Nat → Nat → Int64} {ar : Nat → Nat → Option Nat} {mX8_rules : Nat → Option Nat} {mX8_axioms : Nat → Option Nat} {mX8_axiomCount : Nat → Int32} {mX8_givens : Nat → Option Nat} {mX8_givenCount : Nat → Int32} {mX8_wanted : Nat → Option Nat} {mX8_rows : Nat → Option Nat} {mX8_rowCount : Nat → Int32} {mX8_looked : Nat → Int32} {mX8_from : Nat → Option Nat} {mX8_needed : Nat → Option Nat} {mX8_broken : Nat → Int32} {mX8_places : Nat → Option Nat} {mX8_text : Nat → Option Nat} {mX8_size : Nat → Int32} {mX9_kind : Nat → Int32} {mX9_a : Nat → Int32} {mX9_b : Nat → Int32} {mX9_c : Nat → Int32} {mX26_rule : Nat → Int32} {mX26_instance : Nat → Int32} {mX26_premises : Nat → Option Nat} {mX26_count : Nat → Int32} {mX26_states : Nat → Option Nat} {mX26_right : Nat → Int32} {mX26_size : Nat → Int32} {mX10_takes : Nat → Int32} {mX10_name : Nat → Option Nat} {mX12_any : Nat → Int32} {mX14_kind : Nat → Int32} {mX16_kind : Nat → Int32} {mX18_first : Nat → Int32} {mX19_either : Nat → Int32} {a : Nat} {v : Option Nat} (hk : kd a = 3) : va_up (cPC ci d kd an ai al ar mX8_rules mX8_axioms mX8_axiomCount mX8_givens mX8_givenCount mX8_wanted mX8_rows mX8_rowCount mX8_looked mX8_from mX8_needed mX8_broken mX8_places mX8_text mX8_size mX9_kind mX9_a mX9_b mX9_c mX26_rule mX26_instance mX26_premises mX26_count mX26_states mX26_right mX26_size mX10_takes mX10_name mX12_any mX14_kind mX16_kind mX18_first mX19_either) a (.inr (ci 2, [.int (mX26_rule a), .int (mX26_instance a), va_rf (mX26_premises a), .int (mX26_count a), va_rf v, .int (mX26_right a), .int (mX26_size a)])) = (cPC ci d kd an ai al ar mX8_rules mX8_axioms mX8_axiomCount mX8_givens mX8_givenCount mX8_wanted mX8_rows mX8_rowCount mX8_looked mX8_from mX8_needed mX8_broken mX8_places mX8_text mX8_size mX9_kind mX9_a mX9_b mX9_c mX26_rule mX26_instance mX26_premises mX26_count (va_up mX26_states a v) mX26_right mX26_size mX10_takes mX10_name mX12_any mX14_kind mX16_kind mX18_first mX19_either) := by
  funext b
  by_cases h : b = a
  · subst h
    rw [va_up_self]
    unfold cPC
    rw [hk]
    simp only [va_up_self]
  · rw [va_up_ne _ _ h]
    unfold cPC
    simp only [va_up_ne _ _ h]
theorem cPC_3_5 {ci : Nat → Nat} {d : Nat → ClassId} {kd : Nat → Nat} {an : Nat → Nat} {ai : Nat → Nat → Int32} {al : Nat → Nat → Int64} {ar : Nat → Nat → Option Nat} {mX8_rules : Nat → Option Nat} {mX8_axioms : Nat → Option Nat} {mX8_axiomCount : Nat → Int32} {mX8_givens : Nat → Option Nat} {mX8_givenCount : Nat → Int32} {mX8_wanted : Nat → Option Nat} {mX8_rows : Nat → Option Nat} {mX8_rowCount : Nat → Int32} {mX8_looked : Nat → Int32} {mX8_from : Nat → Option Nat} {mX8_needed : Nat → Option Nat} {mX8_broken : Nat → Int32} {mX8_places : Nat → Option Nat} {mX8_text : Nat → Option Nat} {mX8_size : Nat → Int32} {mX9_kind : Nat → Int32} {mX9_a : Nat → Int32} {mX9_b : Nat → Int32} {mX9_c : Nat → Int32} {mX26_rule : Nat → Int32} {mX26_instance : Nat → Int32} {mX26_premises : Nat → Option Nat} {mX26_count : Nat → Int32} {mX26_states : Nat → Option Nat} {mX26_right : Nat → Int32} {mX26_size : Nat → Int32} {mX10_takes : Nat → Int32} {mX10_name : Nat → Option Nat} {mX12_any : Nat → Int32} {mX14_kind : Nat → Int32} {mX16_kind : Nat → Int32} {mX18_first : Nat → Int32} {mX19_either : Nat → Int32} {a : Nat} {v : Int32} (hk : kd a = 3) : va_up (cPC ci d kd an ai al ar mX8_rules mX8_axioms mX8_axiomCount mX8_givens mX8_givenCount mX8_wanted mX8_rows mX8_rowCount mX8_looked mX8_from mX8_needed mX8_broken mX8_places mX8_text mX8_size mX9_kind mX9_a mX9_b mX9_c mX26_rule mX26_instance mX26_premises mX26_count mX26_states mX26_right mX26_size mX10_takes mX10_name mX12_any mX14_kind mX16_kind mX18_first mX19_either) a (.inr (ci 2, [.int (mX26_rule a), .int (mX26_instance a), va_rf (mX26_premises a), .int (mX26_count a), va_rf (mX26_states a), .int v, .int (mX26_size a)])) = (cPC ci d kd an ai al ar mX8_rules mX8_axioms mX8_axiomCount mX8_givens mX8_givenCount mX8_wanted mX8_rows mX8_rowCount mX8_looked mX8_from mX8_needed mX8_broken mX8_places mX8_text mX8_size mX9_kind mX9_a mX9_b mX9_c mX26_rule mX26_instance mX26_premises mX26_count mX26_states (va_up mX26_right a v) mX26_size mX10_takes mX10_name mX12_any mX14_kind mX16_kind mX18_first mX19_either) := by
  funext b
  by_cases h : b = a
  · subst h
    rw [va_up_self]
    unfold cPC
    rw [hk]
    simp only [va_up_self]
  · rw [va_up_ne _ _ h]
    unfold cPC
    simp only [va_up_ne _ _ h]
theorem cPC_3_6 {ci : Nat → Nat} {d : Nat → ClassId} {kd : Nat → Nat} {an : Nat → Nat} {ai : Nat → Nat → Int32} {al : Nat → Nat → Int64} {ar : Nat → Nat → Option Nat} {mX8_rules : Nat → Option Nat} {mX8_axioms : Nat → Option Nat} {mX8_axiomCount : Nat → Int32} {mX8_givens : Nat → Option Nat} {mX8_givenCount : Nat → Int32} {mX8_wanted : Nat → Option Nat} {mX8_rows : Nat → Option Nat} {mX8_rowCount : Nat → Int32} {mX8_looked : Nat → Int32} {mX8_from : Nat → Option Nat} {mX8_needed : Nat → Option Nat} {mX8_broken : Nat → Int32} {mX8_places : Nat → Option Nat} {mX8_text : Nat → Option Nat} {mX8_size : Nat → Int32} {mX9_kind : Nat → Int32} {mX9_a : Nat → Int32} {mX9_b : Nat → Int32} {mX9_c : Nat → Int32} {mX26_rule : Nat → Int32} {mX26_instance : Nat → Int32} {mX26_premises : Nat → Option Nat} {mX26_count : Nat → Int32} {mX26_states : Nat → Option Nat} {mX26_right : Nat → Int32} {mX26_size : Nat → Int32} {mX10_takes : Nat → Int32} {mX10_name : Nat → Option Nat} {mX12_any : Nat → Int32} {mX14_kind : Nat → Int32} {mX16_kind : Nat → Int32} {mX18_first : Nat → Int32} {mX19_either : Nat → Int32} {a : Nat} {v : Int32} (hk : kd a = 3) : va_up (cPC ci d kd an ai al ar mX8_rules mX8_axioms mX8_axiomCount mX8_givens mX8_givenCount mX8_wanted mX8_rows mX8_rowCount mX8_looked mX8_from mX8_needed mX8_broken mX8_places mX8_text mX8_size mX9_kind mX9_a mX9_b mX9_c mX26_rule mX26_instance mX26_premises mX26_count mX26_states mX26_right mX26_size mX10_takes mX10_name mX12_any mX14_kind mX16_kind mX18_first mX19_either) a (.inr (ci 2, [.int (mX26_rule a), .int (mX26_instance a), va_rf (mX26_premises a), .int (mX26_count a), va_rf (mX26_states a), .int (mX26_right a), .int v])) = (cPC ci d kd an ai al ar mX8_rules mX8_axioms mX8_axiomCount mX8_givens mX8_givenCount mX8_wanted mX8_rows mX8_rowCount mX8_looked mX8_from mX8_needed mX8_broken mX8_places mX8_text mX8_size mX9_kind mX9_a mX9_b mX9_c mX26_rule mX26_instance mX26_premises mX26_count mX26_states mX26_right (va_up mX26_size a v) mX10_takes mX10_name mX12_any mX14_kind mX16_kind mX18_first mX19_either) := by
  funext b
  by_cases h : b = a
  · subst h
    rw [va_up_self]
    unfold cPC
    rw [hk]
    simp only [va_up_self]
  · rw [va_up_ne _ _ h]
    unfold cPC
    simp only [va_up_ne _ _ h]
theorem cPC_3_n {ci : Nat → Nat} {d : Nat → ClassId} {kd : Nat → Nat} {an : Nat → Nat} {ai : Nat → Nat → Int32} {al : Nat → Nat → Int64} {ar : Nat → Nat → Option Nat} {mX8_rules : Nat → Option Nat} {mX8_axioms : Nat → Option Nat} {mX8_axiomCount : Nat → Int32} {mX8_givens : Nat → Option Nat} {mX8_givenCount : Nat → Int32} {mX8_wanted : Nat → Option Nat} {mX8_rows : Nat → Option Nat} {mX8_rowCount : Nat → Int32} {mX8_looked : Nat → Int32} {mX8_from : Nat → Option Nat} {mX8_needed : Nat → Option Nat} {mX8_broken : Nat → Int32} {mX8_places : Nat → Option Nat} {mX8_text : Nat → Option Nat} {mX8_size : Nat → Int32} {mX9_kind : Nat → Int32} {mX9_a : Nat → Int32} {mX9_b : Nat → Int32} {mX9_c : Nat → Int32} {mX26_rule : Nat → Int32} {mX26_instance : Nat → Int32} {mX26_premises : Nat → Option Nat} {mX26_count : Nat → Int32} {mX26_states : Nat → Option Nat} {mX26_right : Nat → Int32} {mX26_size : Nat → Int32} {mX10_takes : Nat → Int32} {mX10_name : Nat → Option Nat} {mX12_any : Nat → Int32} {mX14_kind : Nat → Int32} {mX16_kind : Nat → Int32} {mX18_first : Nat → Int32} {mX19_either : Nat → Int32} (q : Nat) : va_up (cPC ci d kd an ai al ar mX8_rules mX8_axioms mX8_axiomCount mX8_givens mX8_givenCount mX8_wanted mX8_rows mX8_rowCount mX8_looked mX8_from mX8_needed mX8_broken mX8_places mX8_text mX8_size mX9_kind mX9_a mX9_b mX9_c mX26_rule mX26_instance mX26_premises mX26_count mX26_states mX26_right mX26_size mX10_takes mX10_name mX12_any mX14_kind mX16_kind mX18_first mX19_either) q (.inr (ci 2, [.int 0, .int 0, va_rf none, .int 0, va_rf none, .int 0, .int 0])) = (cPC ci d (va_up kd q 3) an ai al ar mX8_rules mX8_axioms mX8_axiomCount mX8_givens mX8_givenCount mX8_wanted mX8_rows mX8_rowCount mX8_looked mX8_from mX8_needed mX8_broken mX8_places mX8_text mX8_size mX9_kind mX9_a mX9_b mX9_c (va_up mX26_rule q 0) (va_up mX26_instance q 0) (va_up mX26_premises q none) (va_up mX26_count q 0) (va_up mX26_states q none) (va_up mX26_right q 0) (va_up mX26_size q 0) mX10_takes mX10_name mX12_any mX14_kind mX16_kind mX18_first mX19_either) := by
  funext b
  by_cases h : b = q
  · subst h
    rw [va_up_self]
    unfold cPC
    simp only [va_up_self]
  · rw [va_up_ne _ _ h]
    unfold cPC
    simp only [va_up_ne _ _ h]
theorem cPC_4 {ci : Nat → Nat} {d : Nat → ClassId} {kd : Nat → Nat} {an : Nat → Nat} {ai : Nat → Nat → Int32} {al : Nat → Nat → Int64} {ar : Nat → Nat → Option Nat} {mX8_rules : Nat → Option Nat} {mX8_axioms : Nat → Option Nat} {mX8_axiomCount : Nat → Int32} {mX8_givens : Nat → Option Nat} {mX8_givenCount : Nat → Int32} {mX8_wanted : Nat → Option Nat} {mX8_rows : Nat → Option Nat} {mX8_rowCount : Nat → Int32} {mX8_looked : Nat → Int32} {mX8_from : Nat → Option Nat} {mX8_needed : Nat → Option Nat} {mX8_broken : Nat → Int32} {mX8_places : Nat → Option Nat} {mX8_text : Nat → Option Nat} {mX8_size : Nat → Int32} {mX9_kind : Nat → Int32} {mX9_a : Nat → Int32} {mX9_b : Nat → Int32} {mX9_c : Nat → Int32} {mX26_rule : Nat → Int32} {mX26_instance : Nat → Int32} {mX26_premises : Nat → Option Nat} {mX26_count : Nat → Int32} {mX26_states : Nat → Option Nat} {mX26_right : Nat → Int32} {mX26_size : Nat → Int32} {mX10_takes : Nat → Int32} {mX10_name : Nat → Option Nat} {mX12_any : Nat → Int32} {mX14_kind : Nat → Int32} {mX16_kind : Nat → Int32} {mX18_first : Nat → Int32} {mX19_either : Nat → Int32} {a : Nat} (hk : kd a = 4) : (cPC ci d kd an ai al ar mX8_rules mX8_axioms mX8_axiomCount mX8_givens mX8_givenCount mX8_wanted mX8_rows mX8_rowCount mX8_looked mX8_from mX8_needed mX8_broken mX8_places mX8_text mX8_size mX9_kind mX9_a mX9_b mX9_c mX26_rule mX26_instance mX26_premises mX26_count mX26_states mX26_right mX26_size mX10_takes mX10_name mX12_any mX14_kind mX16_kind mX18_first mX19_either) a = .inr (ci 3, [.int (mX10_takes a), va_rf (mX10_name a)]) := by unfold cPC; simp only [hk]
theorem cPC_4_0 {ci : Nat → Nat} {d : Nat → ClassId} {kd : Nat → Nat} {an : Nat → Nat} {ai : Nat → Nat → Int32} {al : Nat → Nat → Int64} {ar : Nat → Nat → Option Nat} {mX8_rules : Nat → Option Nat} {mX8_axioms : Nat → Option Nat} {mX8_axiomCount : Nat → Int32} {mX8_givens : Nat → Option Nat} {mX8_givenCount : Nat → Int32} {mX8_wanted : Nat → Option Nat} {mX8_rows : Nat → Option Nat} {mX8_rowCount : Nat → Int32} {mX8_looked : Nat → Int32} {mX8_from : Nat → Option Nat} {mX8_needed : Nat → Option Nat} {mX8_broken : Nat → Int32} {mX8_places : Nat → Option Nat} {mX8_text : Nat → Option Nat} {mX8_size : Nat → Int32} {mX9_kind : Nat → Int32} {mX9_a : Nat → Int32} {mX9_b : Nat → Int32} {mX9_c : Nat → Int32} {mX26_rule : Nat → Int32} {mX26_instance : Nat → Int32} {mX26_premises : Nat → Option Nat} {mX26_count : Nat → Int32} {mX26_states : Nat → Option Nat} {mX26_right : Nat → Int32} {mX26_size : Nat → Int32} {mX10_takes : Nat → Int32} {mX10_name : Nat → Option Nat} {mX12_any : Nat → Int32} {mX14_kind : Nat → Int32} {mX16_kind : Nat → Int32} {mX18_first : Nat → Int32} {mX19_either : Nat → Int32} {a : Nat} {v : Int32} (hk : kd a = 4) : va_up (cPC ci d kd an ai al ar mX8_rules mX8_axioms mX8_axiomCount mX8_givens mX8_givenCount mX8_wanted mX8_rows mX8_rowCount mX8_looked mX8_from mX8_needed mX8_broken mX8_places mX8_text mX8_size mX9_kind mX9_a mX9_b mX9_c mX26_rule mX26_instance mX26_premises mX26_count mX26_states mX26_right mX26_size mX10_takes mX10_name mX12_any mX14_kind mX16_kind mX18_first mX19_either) a (.inr (ci 3, [.int v, va_rf (mX10_name a)])) = (cPC ci d kd an ai al ar mX8_rules mX8_axioms mX8_axiomCount mX8_givens mX8_givenCount mX8_wanted mX8_rows mX8_rowCount mX8_looked mX8_from mX8_needed mX8_broken mX8_places mX8_text mX8_size mX9_kind mX9_a mX9_b mX9_c mX26_rule mX26_instance mX26_premises mX26_count mX26_states mX26_right mX26_size (va_up mX10_takes a v) mX10_name mX12_any mX14_kind mX16_kind mX18_first mX19_either) := by
  funext b
  by_cases h : b = a
  · subst h
    rw [va_up_self]
    unfold cPC
    rw [hk]
    simp only [va_up_self]
  · rw [va_up_ne _ _ h]
    unfold cPC
    simp only [va_up_ne _ _ h]
theorem cPC_4_1 {ci : Nat → Nat} {d : Nat → ClassId} {kd : Nat → Nat} {an : Nat → Nat} {ai : Nat → Nat → Int32} {al : Nat → Nat → Int64} {ar : Nat → Nat → Option Nat} {mX8_rules : Nat → Option Nat} {mX8_axioms : Nat → Option Nat} {mX8_axiomCount : Nat → Int32} {mX8_givens : Nat → Option Nat} {mX8_givenCount : Nat → Int32} {mX8_wanted : Nat → Option Nat} {mX8_rows : Nat → Option Nat} {mX8_rowCount : Nat → Int32} {mX8_looked : Nat → Int32} {mX8_from : Nat → Option Nat} {mX8_needed : Nat → Option Nat} {mX8_broken : Nat → Int32} {mX8_places : Nat → Option Nat} {mX8_text : Nat → Option Nat} {mX8_size : Nat → Int32} {mX9_kind : Nat → Int32} {mX9_a : Nat → Int32} {mX9_b : Nat → Int32} {mX9_c : Nat → Int32} {mX26_rule : Nat → Int32} {mX26_instance : Nat → Int32} {mX26_premises : Nat → Option Nat} {mX26_count : Nat → Int32} {mX26_states : Nat → Option Nat} {mX26_right : Nat → Int32} {mX26_size : Nat → Int32} {mX10_takes : Nat → Int32} {mX10_name : Nat → Option Nat} {mX12_any : Nat → Int32} {mX14_kind : Nat → Int32} {mX16_kind : Nat → Int32} {mX18_first : Nat → Int32} {mX19_either : Nat → Int32} {a : Nat} {v : Option Nat} (hk : kd a = 4) : va_up (cPC ci d kd an ai al ar mX8_rules mX8_axioms mX8_axiomCount mX8_givens mX8_givenCount mX8_wanted mX8_rows mX8_rowCount mX8_looked mX8_from mX8_needed mX8_broken mX8_places mX8_text mX8_size mX9_kind mX9_a mX9_b mX9_c mX26_rule mX26_instance mX26_premises mX26_count mX26_states mX26_right mX26_size mX10_takes mX10_name mX12_any mX14_kind mX16_kind mX18_first mX19_either) a (.inr (ci 3, [.int (mX10_takes a), va_rf v])) = (cPC ci d kd an ai al ar mX8_rules mX8_axioms mX8_axiomCount mX8_givens mX8_givenCount mX8_wanted mX8_rows mX8_rowCount mX8_looked mX8_from mX8_needed mX8_broken mX8_places mX8_text mX8_size mX9_kind mX9_a mX9_b mX9_c mX26_rule mX26_instance mX26_premises mX26_count mX26_states mX26_right mX26_size mX10_takes (va_up mX10_name a v) mX12_any mX14_kind mX16_kind mX18_first mX19_either) := by
  funext b
  by_cases h : b = a
  · subst h
    rw [va_up_self]
    unfold cPC
    rw [hk]
    simp only [va_up_self]
  · rw [va_up_ne _ _ h]
    unfold cPC
    simp only [va_up_ne _ _ h]
theorem cPC_4_n {ci : Nat → Nat} {d : Nat → ClassId} {kd : Nat → Nat} {an : Nat → Nat} {ai : Nat → Nat → Int32} {al : Nat → Nat → Int64} {ar : Nat → Nat → Option Nat} {mX8_rules : Nat → Option Nat} {mX8_axioms : Nat → Option Nat} {mX8_axiomCount : Nat → Int32} {mX8_givens : Nat → Option Nat} {mX8_givenCount : Nat → Int32} {mX8_wanted : Nat → Option Nat} {mX8_rows : Nat → Option Nat} {mX8_rowCount : Nat → Int32} {mX8_looked : Nat → Int32} {mX8_from : Nat → Option Nat} {mX8_needed : Nat → Option Nat} {mX8_broken : Nat → Int32} {mX8_places : Nat → Option Nat} {mX8_text : Nat → Option Nat} {mX8_size : Nat → Int32} {mX9_kind : Nat → Int32} {mX9_a : Nat → Int32} {mX9_b : Nat → Int32} {mX9_c : Nat → Int32} {mX26_rule : Nat → Int32} {mX26_instance : Nat → Int32} {mX26_premises : Nat → Option Nat} {mX26_count : Nat → Int32} {mX26_states : Nat → Option Nat} {mX26_right : Nat → Int32} {mX26_size : Nat → Int32} {mX10_takes : Nat → Int32} {mX10_name : Nat → Option Nat} {mX12_any : Nat → Int32} {mX14_kind : Nat → Int32} {mX16_kind : Nat → Int32} {mX18_first : Nat → Int32} {mX19_either : Nat → Int32} (q : Nat) : va_up (cPC ci d kd an ai al ar mX8_rules mX8_axioms mX8_axiomCount mX8_givens mX8_givenCount mX8_wanted mX8_rows mX8_rowCount mX8_looked mX8_from mX8_needed mX8_broken mX8_places mX8_text mX8_size mX9_kind mX9_a mX9_b mX9_c mX26_rule mX26_instance mX26_premises mX26_count mX26_states mX26_right mX26_size mX10_takes mX10_name mX12_any mX14_kind mX16_kind mX18_first mX19_either) q (.inr (ci 3, [.int 0, va_rf none])) = (cPC ci d (va_up kd q 4) an ai al ar mX8_rules mX8_axioms mX8_axiomCount mX8_givens mX8_givenCount mX8_wanted mX8_rows mX8_rowCount mX8_looked mX8_from mX8_needed mX8_broken mX8_places mX8_text mX8_size mX9_kind mX9_a mX9_b mX9_c mX26_rule mX26_instance mX26_premises mX26_count mX26_states mX26_right mX26_size (va_up mX10_takes q 0) (va_up mX10_name q none) mX12_any mX14_kind mX16_kind mX18_first mX19_either) := by
  funext b
  by_cases h : b = q
  · subst h
    rw [va_up_self]
    unfold cPC
    simp only [va_up_self]
  · rw [va_up_ne _ _ h]
    unfold cPC
    simp only [va_up_ne _ _ h]
theorem cPC_5 {ci : Nat → Nat} {d : Nat → ClassId} {kd : Nat → Nat} {an : Nat → Nat} {ai : Nat → Nat → Int32} {al : Nat → Nat → Int64} {ar : Nat → Nat → Option Nat} {mX8_rules : Nat → Option Nat} {mX8_axioms : Nat → Option Nat} {mX8_axiomCount : Nat → Int32} {mX8_givens : Nat → Option Nat} {mX8_givenCount : Nat → Int32} {mX8_wanted : Nat → Option Nat} {mX8_rows : Nat → Option Nat} {mX8_rowCount : Nat → Int32} {mX8_looked : Nat → Int32} {mX8_from : Nat → Option Nat} {mX8_needed : Nat → Option Nat} {mX8_broken : Nat → Int32} {mX8_places : Nat → Option Nat} {mX8_text : Nat → Option Nat} {mX8_size : Nat → Int32} {mX9_kind : Nat → Int32} {mX9_a : Nat → Int32} {mX9_b : Nat → Int32} {mX9_c : Nat → Int32} {mX26_rule : Nat → Int32} {mX26_instance : Nat → Int32} {mX26_premises : Nat → Option Nat} {mX26_count : Nat → Int32} {mX26_states : Nat → Option Nat} {mX26_right : Nat → Int32} {mX26_size : Nat → Int32} {mX10_takes : Nat → Int32} {mX10_name : Nat → Option Nat} {mX12_any : Nat → Int32} {mX14_kind : Nat → Int32} {mX16_kind : Nat → Int32} {mX18_first : Nat → Int32} {mX19_either : Nat → Int32} {a : Nat} (hk : kd a = 5) : (cPC ci d kd an ai al ar mX8_rules mX8_axioms mX8_axiomCount mX8_givens mX8_givenCount mX8_wanted mX8_rows mX8_rowCount mX8_looked mX8_from mX8_needed mX8_broken mX8_places mX8_text mX8_size mX9_kind mX9_a mX9_b mX9_c mX26_rule mX26_instance mX26_premises mX26_count mX26_states mX26_right mX26_size mX10_takes mX10_name mX12_any mX14_kind mX16_kind mX18_first mX19_either) a = .inr (ci 4, [.int (mX10_takes a), va_rf (mX10_name a), .int (mX12_any a)]) := by unfold cPC; simp only [hk]
theorem cPC_5_0 {ci : Nat → Nat} {d : Nat → ClassId} {kd : Nat → Nat} {an : Nat → Nat} {ai : Nat → Nat → Int32} {al : Nat → Nat → Int64} {ar : Nat → Nat → Option Nat} {mX8_rules : Nat → Option Nat} {mX8_axioms : Nat → Option Nat} {mX8_axiomCount : Nat → Int32} {mX8_givens : Nat → Option Nat} {mX8_givenCount : Nat → Int32} {mX8_wanted : Nat → Option Nat} {mX8_rows : Nat → Option Nat} {mX8_rowCount : Nat → Int32} {mX8_looked : Nat → Int32} {mX8_from : Nat → Option Nat} {mX8_needed : Nat → Option Nat} {mX8_broken : Nat → Int32} {mX8_places : Nat → Option Nat} {mX8_text : Nat → Option Nat} {mX8_size : Nat → Int32} {mX9_kind : Nat → Int32} {mX9_a : Nat → Int32} {mX9_b : Nat → Int32} {mX9_c : Nat → Int32} {mX26_rule : Nat → Int32} {mX26_instance : Nat → Int32} {mX26_premises : Nat → Option Nat} {mX26_count : Nat → Int32} {mX26_states : Nat → Option Nat} {mX26_right : Nat → Int32} {mX26_size : Nat → Int32} {mX10_takes : Nat → Int32} {mX10_name : Nat → Option Nat} {mX12_any : Nat → Int32} {mX14_kind : Nat → Int32} {mX16_kind : Nat → Int32} {mX18_first : Nat → Int32} {mX19_either : Nat → Int32} {a : Nat} {v : Int32} (hk : kd a = 5) : va_up (cPC ci d kd an ai al ar mX8_rules mX8_axioms mX8_axiomCount mX8_givens mX8_givenCount mX8_wanted mX8_rows mX8_rowCount mX8_looked mX8_from mX8_needed mX8_broken mX8_places mX8_text mX8_size mX9_kind mX9_a mX9_b mX9_c mX26_rule mX26_instance mX26_premises mX26_count mX26_states mX26_right mX26_size mX10_takes mX10_name mX12_any mX14_kind mX16_kind mX18_first mX19_either) a (.inr (ci 4, [.int v, va_rf (mX10_name a), .int (mX12_any a)])) = (cPC ci d kd an ai al ar mX8_rules mX8_axioms mX8_axiomCount mX8_givens mX8_givenCount mX8_wanted mX8_rows mX8_rowCount mX8_looked mX8_from mX8_needed mX8_broken mX8_places mX8_text mX8_size mX9_kind mX9_a mX9_b mX9_c mX26_rule mX26_instance mX26_premises mX26_count mX26_states mX26_right mX26_size (va_up mX10_takes a v) mX10_name mX12_any mX14_kind mX16_kind mX18_first mX19_either) := by
  funext b
  by_cases h : b = a
  · subst h
    rw [va_up_self]
    unfold cPC
    rw [hk]
    simp only [va_up_self]
  · rw [va_up_ne _ _ h]
    unfold cPC
    simp only [va_up_ne _ _ h]
theorem cPC_5_1 {ci : Nat → Nat} {d : Nat → ClassId} {kd : Nat → Nat} {an : Nat → Nat} {ai : Nat → Nat → Int32} {al : Nat → Nat → Int64} {ar : Nat → Nat → Option Nat} {mX8_rules : Nat → Option Nat} {mX8_axioms : Nat → Option Nat} {mX8_axiomCount : Nat → Int32} {mX8_givens : Nat → Option Nat} {mX8_givenCount : Nat → Int32} {mX8_wanted : Nat → Option Nat} {mX8_rows : Nat → Option Nat} {mX8_rowCount : Nat → Int32} {mX8_looked : Nat → Int32} {mX8_from : Nat → Option Nat} {mX8_needed : Nat → Option Nat} {mX8_broken : Nat → Int32} {mX8_places : Nat → Option Nat} {mX8_text : Nat → Option Nat} {mX8_size : Nat → Int32} {mX9_kind : Nat → Int32} {mX9_a : Nat → Int32} {mX9_b : Nat → Int32} {mX9_c : Nat → Int32} {mX26_rule : Nat → Int32} {mX26_instance : Nat → Int32} {mX26_premises : Nat → Option Nat} {mX26_count : Nat → Int32} {mX26_states : Nat → Option Nat} {mX26_right : Nat → Int32} {mX26_size : Nat → Int32} {mX10_takes : Nat → Int32} {mX10_name : Nat → Option Nat} {mX12_any : Nat → Int32} {mX14_kind : Nat → Int32} {mX16_kind : Nat → Int32} {mX18_first : Nat → Int32} {mX19_either : Nat → Int32} {a : Nat} {v : Option Nat} (hk : kd a = 5) : va_up (cPC ci d kd an ai al ar mX8_rules mX8_axioms mX8_axiomCount mX8_givens mX8_givenCount mX8_wanted mX8_rows mX8_rowCount mX8_looked mX8_from mX8_needed mX8_broken mX8_places mX8_text mX8_size mX9_kind mX9_a mX9_b mX9_c mX26_rule mX26_instance mX26_premises mX26_count mX26_states mX26_right mX26_size mX10_takes mX10_name mX12_any mX14_kind mX16_kind mX18_first mX19_either) a (.inr (ci 4, [.int (mX10_takes a), va_rf v, .int (mX12_any a)])) = (cPC ci d kd an ai al ar mX8_rules mX8_axioms mX8_axiomCount mX8_givens mX8_givenCount mX8_wanted mX8_rows mX8_rowCount mX8_looked mX8_from mX8_needed mX8_broken mX8_places mX8_text mX8_size mX9_kind mX9_a mX9_b mX9_c mX26_rule mX26_instance mX26_premises mX26_count mX26_states mX26_right mX26_size mX10_takes (va_up mX10_name a v) mX12_any mX14_kind mX16_kind mX18_first mX19_either) := by
  funext b
  by_cases h : b = a
  · subst h
    rw [va_up_self]
    unfold cPC
    rw [hk]
    simp only [va_up_self]
  · rw [va_up_ne _ _ h]
    unfold cPC
    simp only [va_up_ne _ _ h]
theorem cPC_5_2 {ci : Nat → Nat} {d : Nat → ClassId} {kd : Nat → Nat} {an : Nat → Nat} {ai : Nat → Nat → Int32} {al : Nat → Nat → Int64} {ar : Nat → Nat → Option Nat} {mX8_rules : Nat → Option Nat} {mX8_axioms : Nat → Option Nat} {mX8_axiomCount : Nat → Int32} {mX8_givens : Nat → Option Nat} {mX8_givenCount : Nat → Int32} {mX8_wanted : Nat → Option Nat} {mX8_rows : Nat → Option Nat} {mX8_rowCount : Nat → Int32} {mX8_looked : Nat → Int32} {mX8_from : Nat → Option Nat} {mX8_needed : Nat → Option Nat} {mX8_broken : Nat → Int32} {mX8_places : Nat → Option Nat} {mX8_text : Nat → Option Nat} {mX8_size : Nat → Int32} {mX9_kind : Nat → Int32} {mX9_a : Nat → Int32} {mX9_b : Nat → Int32} {mX9_c : Nat → Int32} {mX26_rule : Nat → Int32} {mX26_instance : Nat → Int32} {mX26_premises : Nat → Option Nat} {mX26_count : Nat → Int32} {mX26_states : Nat → Option Nat} {mX26_right : Nat → Int32} {mX26_size : Nat → Int32} {mX10_takes : Nat → Int32} {mX10_name : Nat → Option Nat} {mX12_any : Nat → Int32} {mX14_kind : Nat → Int32} {mX16_kind : Nat → Int32} {mX18_first : Nat → Int32} {mX19_either : Nat → Int32} {a : Nat} {v : Int32} (hk : kd a = 5) : va_up (cPC ci d kd an ai al ar mX8_rules mX8_axioms mX8_axiomCount mX8_givens mX8_givenCount mX8_wanted mX8_rows mX8_rowCount mX8_looked mX8_from mX8_needed mX8_broken mX8_places mX8_text mX8_size mX9_kind mX9_a mX9_b mX9_c mX26_rule mX26_instance mX26_premises mX26_count mX26_states mX26_right mX26_size mX10_takes mX10_name mX12_any mX14_kind mX16_kind mX18_first mX19_either) a (.inr (ci 4, [.int (mX10_takes a), va_rf (mX10_name a), .int v])) = (cPC ci d kd an ai al ar mX8_rules mX8_axioms mX8_axiomCount mX8_givens mX8_givenCount mX8_wanted mX8_rows mX8_rowCount mX8_looked mX8_from mX8_needed mX8_broken mX8_places mX8_text mX8_size mX9_kind mX9_a mX9_b mX9_c mX26_rule mX26_instance mX26_premises mX26_count mX26_states mX26_right mX26_size mX10_takes mX10_name (va_up mX12_any a v) mX14_kind mX16_kind mX18_first mX19_either) := by
  funext b
  by_cases h : b = a
  · subst h
    rw [va_up_self]
    unfold cPC
    rw [hk]
    simp only [va_up_self]
  · rw [va_up_ne _ _ h]
    unfold cPC
    simp only [va_up_ne _ _ h]
theorem cPC_5_n {ci : Nat → Nat} {d : Nat → ClassId} {kd : Nat → Nat} {an : Nat → Nat} {ai : Nat → Nat → Int32} {al : Nat → Nat → Int64} {ar : Nat → Nat → Option Nat} {mX8_rules : Nat → Option Nat} {mX8_axioms : Nat → Option Nat} {mX8_axiomCount : Nat → Int32} {mX8_givens : Nat → Option Nat} {mX8_givenCount : Nat → Int32} {mX8_wanted : Nat → Option Nat} {mX8_rows : Nat → Option Nat} {mX8_rowCount : Nat → Int32} {mX8_looked : Nat → Int32} {mX8_from : Nat → Option Nat} {mX8_needed : Nat → Option Nat} {mX8_broken : Nat → Int32} {mX8_places : Nat → Option Nat} {mX8_text : Nat → Option Nat} {mX8_size : Nat → Int32} {mX9_kind : Nat → Int32} {mX9_a : Nat → Int32} {mX9_b : Nat → Int32} {mX9_c : Nat → Int32} {mX26_rule : Nat → Int32} {mX26_instance : Nat → Int32} {mX26_premises : Nat → Option Nat} {mX26_count : Nat → Int32} {mX26_states : Nat → Option Nat} {mX26_right : Nat → Int32} {mX26_size : Nat → Int32} {mX10_takes : Nat → Int32} {mX10_name : Nat → Option Nat} {mX12_any : Nat → Int32} {mX14_kind : Nat → Int32} {mX16_kind : Nat → Int32} {mX18_first : Nat → Int32} {mX19_either : Nat → Int32} (q : Nat) : va_up (cPC ci d kd an ai al ar mX8_rules mX8_axioms mX8_axiomCount mX8_givens mX8_givenCount mX8_wanted mX8_rows mX8_rowCount mX8_looked mX8_from mX8_needed mX8_broken mX8_places mX8_text mX8_size mX9_kind mX9_a mX9_b mX9_c mX26_rule mX26_instance mX26_premises mX26_count mX26_states mX26_right mX26_size mX10_takes mX10_name mX12_any mX14_kind mX16_kind mX18_first mX19_either) q (.inr (ci 4, [.int 0, va_rf none, .int 0])) = (cPC ci d (va_up kd q 5) an ai al ar mX8_rules mX8_axioms mX8_axiomCount mX8_givens mX8_givenCount mX8_wanted mX8_rows mX8_rowCount mX8_looked mX8_from mX8_needed mX8_broken mX8_places mX8_text mX8_size mX9_kind mX9_a mX9_b mX9_c mX26_rule mX26_instance mX26_premises mX26_count mX26_states mX26_right mX26_size (va_up mX10_takes q 0) (va_up mX10_name q none) (va_up mX12_any q 0) mX14_kind mX16_kind mX18_first mX19_either) := by
  funext b
  by_cases h : b = q
  · subst h
    rw [va_up_self]
    unfold cPC
    simp only [va_up_self]
  · rw [va_up_ne _ _ h]
    unfold cPC
    simp only [va_up_ne _ _ h]
theorem cPC_6 {ci : Nat → Nat} {d : Nat → ClassId} {kd : Nat → Nat} {an : Nat → Nat} {ai : Nat → Nat → Int32} {al : Nat → Nat → Int64} {ar : Nat → Nat → Option Nat} {mX8_rules : Nat → Option Nat} {mX8_axioms : Nat → Option Nat} {mX8_axiomCount : Nat → Int32} {mX8_givens : Nat → Option Nat} {mX8_givenCount : Nat → Int32} {mX8_wanted : Nat → Option Nat} {mX8_rows : Nat → Option Nat} {mX8_rowCount : Nat → Int32} {mX8_looked : Nat → Int32} {mX8_from : Nat → Option Nat} {mX8_needed : Nat → Option Nat} {mX8_broken : Nat → Int32} {mX8_places : Nat → Option Nat} {mX8_text : Nat → Option Nat} {mX8_size : Nat → Int32} {mX9_kind : Nat → Int32} {mX9_a : Nat → Int32} {mX9_b : Nat → Int32} {mX9_c : Nat → Int32} {mX26_rule : Nat → Int32} {mX26_instance : Nat → Int32} {mX26_premises : Nat → Option Nat} {mX26_count : Nat → Int32} {mX26_states : Nat → Option Nat} {mX26_right : Nat → Int32} {mX26_size : Nat → Int32} {mX10_takes : Nat → Int32} {mX10_name : Nat → Option Nat} {mX12_any : Nat → Int32} {mX14_kind : Nat → Int32} {mX16_kind : Nat → Int32} {mX18_first : Nat → Int32} {mX19_either : Nat → Int32} {a : Nat} (hk : kd a = 6) : (cPC ci d kd an ai al ar mX8_rules mX8_axioms mX8_axiomCount mX8_givens mX8_givenCount mX8_wanted mX8_rows mX8_rowCount mX8_looked mX8_from mX8_needed mX8_broken mX8_places mX8_text mX8_size mX9_kind mX9_a mX9_b mX9_c mX26_rule mX26_instance mX26_premises mX26_count mX26_states mX26_right mX26_size mX10_takes mX10_name mX12_any mX14_kind mX16_kind mX18_first mX19_either) a = .inr (ci 5, [.int (mX10_takes a), va_rf (mX10_name a)]) := by unfold cPC; simp only [hk]
theorem cPC_6_0 {ci : Nat → Nat} {d : Nat → ClassId} {kd : Nat → Nat} {an : Nat → Nat} {ai : Nat → Nat → Int32} {al : Nat → Nat → Int64} {ar : Nat → Nat → Option Nat} {mX8_rules : Nat → Option Nat} {mX8_axioms : Nat → Option Nat} {mX8_axiomCount : Nat → Int32} {mX8_givens : Nat → Option Nat} {mX8_givenCount : Nat → Int32} {mX8_wanted : Nat → Option Nat} {mX8_rows : Nat → Option Nat} {mX8_rowCount : Nat → Int32} {mX8_looked : Nat → Int32} {mX8_from : Nat → Option Nat} {mX8_needed : Nat → Option Nat} {mX8_broken : Nat → Int32} {mX8_places : Nat → Option Nat} {mX8_text : Nat → Option Nat} {mX8_size : Nat → Int32} {mX9_kind : Nat → Int32} {mX9_a : Nat → Int32} {mX9_b : Nat → Int32} {mX9_c : Nat → Int32} {mX26_rule : Nat → Int32} {mX26_instance : Nat → Int32} {mX26_premises : Nat → Option Nat} {mX26_count : Nat → Int32} {mX26_states : Nat → Option Nat} {mX26_right : Nat → Int32} {mX26_size : Nat → Int32} {mX10_takes : Nat → Int32} {mX10_name : Nat → Option Nat} {mX12_any : Nat → Int32} {mX14_kind : Nat → Int32} {mX16_kind : Nat → Int32} {mX18_first : Nat → Int32} {mX19_either : Nat → Int32} {a : Nat} {v : Int32} (hk : kd a = 6) : va_up (cPC ci d kd an ai al ar mX8_rules mX8_axioms mX8_axiomCount mX8_givens mX8_givenCount mX8_wanted mX8_rows mX8_rowCount mX8_looked mX8_from mX8_needed mX8_broken mX8_places mX8_text mX8_size mX9_kind mX9_a mX9_b mX9_c mX26_rule mX26_instance mX26_premises mX26_count mX26_states mX26_right mX26_size mX10_takes mX10_name mX12_any mX14_kind mX16_kind mX18_first mX19_either) a (.inr (ci 5, [.int v, va_rf (mX10_name a)])) = (cPC ci d kd an ai al ar mX8_rules mX8_axioms mX8_axiomCount mX8_givens mX8_givenCount mX8_wanted mX8_rows mX8_rowCount mX8_looked mX8_from mX8_needed mX8_broken mX8_places mX8_text mX8_size mX9_kind mX9_a mX9_b mX9_c mX26_rule mX26_instance mX26_premises mX26_count mX26_states mX26_right mX26_size (va_up mX10_takes a v) mX10_name mX12_any mX14_kind mX16_kind mX18_first mX19_either) := by
  funext b
  by_cases h : b = a
  · subst h
    rw [va_up_self]
    unfold cPC
    rw [hk]
    simp only [va_up_self]
  · rw [va_up_ne _ _ h]
    unfold cPC
    simp only [va_up_ne _ _ h]
theorem cPC_6_1 {ci : Nat → Nat} {d : Nat → ClassId} {kd : Nat → Nat} {an : Nat → Nat} {ai : Nat → Nat → Int32} {al : Nat → Nat → Int64} {ar : Nat → Nat → Option Nat} {mX8_rules : Nat → Option Nat} {mX8_axioms : Nat → Option Nat} {mX8_axiomCount : Nat → Int32} {mX8_givens : Nat → Option Nat} {mX8_givenCount : Nat → Int32} {mX8_wanted : Nat → Option Nat} {mX8_rows : Nat → Option Nat} {mX8_rowCount : Nat → Int32} {mX8_looked : Nat → Int32} {mX8_from : Nat → Option Nat} {mX8_needed : Nat → Option Nat} {mX8_broken : Nat → Int32} {mX8_places : Nat → Option Nat} {mX8_text : Nat → Option Nat} {mX8_size : Nat → Int32} {mX9_kind : Nat → Int32} {mX9_a : Nat → Int32} {mX9_b : Nat → Int32} {mX9_c : Nat → Int32} {mX26_rule : Nat → Int32} {mX26_instance : Nat → Int32} {mX26_premises : Nat → Option Nat} {mX26_count : Nat → Int32} {mX26_states : Nat → Option Nat} {mX26_right : Nat → Int32} {mX26_size : Nat → Int32} {mX10_takes : Nat → Int32} {mX10_name : Nat → Option Nat} {mX12_any : Nat → Int32} {mX14_kind : Nat → Int32} {mX16_kind : Nat → Int32} {mX18_first : Nat → Int32} {mX19_either : Nat → Int32} {a : Nat} {v : Option Nat} (hk : kd a = 6) : va_up (cPC ci d kd an ai al ar mX8_rules mX8_axioms mX8_axiomCount mX8_givens mX8_givenCount mX8_wanted mX8_rows mX8_rowCount mX8_looked mX8_from mX8_needed mX8_broken mX8_places mX8_text mX8_size mX9_kind mX9_a mX9_b mX9_c mX26_rule mX26_instance mX26_premises mX26_count mX26_states mX26_right mX26_size mX10_takes mX10_name mX12_any mX14_kind mX16_kind mX18_first mX19_either) a (.inr (ci 5, [.int (mX10_takes a), va_rf v])) = (cPC ci d kd an ai al ar mX8_rules mX8_axioms mX8_axiomCount mX8_givens mX8_givenCount mX8_wanted mX8_rows mX8_rowCount mX8_looked mX8_from mX8_needed mX8_broken mX8_places mX8_text mX8_size mX9_kind mX9_a mX9_b mX9_c mX26_rule mX26_instance mX26_premises mX26_count mX26_states mX26_right mX26_size mX10_takes (va_up mX10_name a v) mX12_any mX14_kind mX16_kind mX18_first mX19_either) := by
  funext b
  by_cases h : b = a
  · subst h
    rw [va_up_self]
    unfold cPC
    rw [hk]
    simp only [va_up_self]
  · rw [va_up_ne _ _ h]
    unfold cPC
    simp only [va_up_ne _ _ h]
theorem cPC_6_n {ci : Nat → Nat} {d : Nat → ClassId} {kd : Nat → Nat} {an : Nat → Nat} {ai : Nat → Nat → Int32} {al : Nat → Nat → Int64} {ar : Nat → Nat → Option Nat} {mX8_rules : Nat → Option Nat} {mX8_axioms : Nat → Option Nat} {mX8_axiomCount : Nat → Int32} {mX8_givens : Nat → Option Nat} {mX8_givenCount : Nat → Int32} {mX8_wanted : Nat → Option Nat} {mX8_rows : Nat → Option Nat} {mX8_rowCount : Nat → Int32} {mX8_looked : Nat → Int32} {mX8_from : Nat → Option Nat} {mX8_needed : Nat → Option Nat} {mX8_broken : Nat → Int32} {mX8_places : Nat → Option Nat} {mX8_text : Nat → Option Nat} {mX8_size : Nat → Int32} {mX9_kind : Nat → Int32} {mX9_a : Nat → Int32} {mX9_b : Nat → Int32} {mX9_c : Nat → Int32} {mX26_rule : Nat → Int32} {mX26_instance : Nat → Int32} {mX26_premises : Nat → Option Nat} {mX26_count : Nat → Int32} {mX26_states : Nat → Option Nat} {mX26_right : Nat → Int32} {mX26_size : Nat → Int32} {mX10_takes : Nat → Int32} {mX10_name : Nat → Option Nat} {mX12_any : Nat → Int32} {mX14_kind : Nat → Int32} {mX16_kind : Nat → Int32} {mX18_first : Nat → Int32} {mX19_either : Nat → Int32} (q : Nat) : va_up (cPC ci d kd an ai al ar mX8_rules mX8_axioms mX8_axiomCount mX8_givens mX8_givenCount mX8_wanted mX8_rows mX8_rowCount mX8_looked mX8_from mX8_needed mX8_broken mX8_places mX8_text mX8_size mX9_kind mX9_a mX9_b mX9_c mX26_rule mX26_instance mX26_premises mX26_count mX26_states mX26_right mX26_size mX10_takes mX10_name mX12_any mX14_kind mX16_kind mX18_first mX19_either) q (.inr (ci 5, [.int 0, va_rf none])) = (cPC ci d (va_up kd q 6) an ai al ar mX8_rules mX8_axioms mX8_axiomCount mX8_givens mX8_givenCount mX8_wanted mX8_rows mX8_rowCount mX8_looked mX8_from mX8_needed mX8_broken mX8_places mX8_text mX8_size mX9_kind mX9_a mX9_b mX9_c mX26_rule mX26_instance mX26_premises mX26_count mX26_states mX26_right mX26_size (va_up mX10_takes q 0) (va_up mX10_name q none) mX12_any mX14_kind mX16_kind mX18_first mX19_either) := by
  funext b
  by_cases h : b = q
  · subst h
    rw [va_up_self]
    unfold cPC
    simp only [va_up_self]
  · rw [va_up_ne _ _ h]
    unfold cPC
    simp only [va_up_ne _ _ h]
theorem cPC_7 {ci : Nat → Nat} {d : Nat → ClassId} {kd : Nat → Nat} {an : Nat → Nat} {ai : Nat → Nat → Int32} {al : Nat → Nat → Int64} {ar : Nat → Nat → Option Nat} {mX8_rules : Nat → Option Nat} {mX8_axioms : Nat → Option Nat} {mX8_axiomCount : Nat → Int32} {mX8_givens : Nat → Option Nat} {mX8_givenCount : Nat → Int32} {mX8_wanted : Nat → Option Nat} {mX8_rows : Nat → Option Nat} {mX8_rowCount : Nat → Int32} {mX8_looked : Nat → Int32} {mX8_from : Nat → Option Nat} {mX8_needed : Nat → Option Nat} {mX8_broken : Nat → Int32} {mX8_places : Nat → Option Nat} {mX8_text : Nat → Option Nat} {mX8_size : Nat → Int32} {mX9_kind : Nat → Int32} {mX9_a : Nat → Int32} {mX9_b : Nat → Int32} {mX9_c : Nat → Int32} {mX26_rule : Nat → Int32} {mX26_instance : Nat → Int32} {mX26_premises : Nat → Option Nat} {mX26_count : Nat → Int32} {mX26_states : Nat → Option Nat} {mX26_right : Nat → Int32} {mX26_size : Nat → Int32} {mX10_takes : Nat → Int32} {mX10_name : Nat → Option Nat} {mX12_any : Nat → Int32} {mX14_kind : Nat → Int32} {mX16_kind : Nat → Int32} {mX18_first : Nat → Int32} {mX19_either : Nat → Int32} {a : Nat} (hk : kd a = 7) : (cPC ci d kd an ai al ar mX8_rules mX8_axioms mX8_axiomCount mX8_givens mX8_givenCount mX8_wanted mX8_rows mX8_rowCount mX8_looked mX8_from mX8_needed mX8_broken mX8_places mX8_text mX8_size mX9_kind mX9_a mX9_b mX9_c mX26_rule mX26_instance mX26_premises mX26_count mX26_states mX26_right mX26_size mX10_takes mX10_name mX12_any mX14_kind mX16_kind mX18_first mX19_either) a = .inr (ci 6, [.int (mX10_takes a), va_rf (mX10_name a), .int (mX14_kind a)]) := by unfold cPC; simp only [hk]
theorem cPC_7_0 {ci : Nat → Nat} {d : Nat → ClassId} {kd : Nat → Nat} {an : Nat → Nat} {ai : Nat → Nat → Int32} {al : Nat → Nat → Int64} {ar : Nat → Nat → Option Nat} {mX8_rules : Nat → Option Nat} {mX8_axioms : Nat → Option Nat} {mX8_axiomCount : Nat → Int32} {mX8_givens : Nat → Option Nat} {mX8_givenCount : Nat → Int32} {mX8_wanted : Nat → Option Nat} {mX8_rows : Nat → Option Nat} {mX8_rowCount : Nat → Int32} {mX8_looked : Nat → Int32} {mX8_from : Nat → Option Nat} {mX8_needed : Nat → Option Nat} {mX8_broken : Nat → Int32} {mX8_places : Nat → Option Nat} {mX8_text : Nat → Option Nat} {mX8_size : Nat → Int32} {mX9_kind : Nat → Int32} {mX9_a : Nat → Int32} {mX9_b : Nat → Int32} {mX9_c : Nat → Int32} {mX26_rule : Nat → Int32} {mX26_instance : Nat → Int32} {mX26_premises : Nat → Option Nat} {mX26_count : Nat → Int32} {mX26_states : Nat → Option Nat} {mX26_right : Nat → Int32} {mX26_size : Nat → Int32} {mX10_takes : Nat → Int32} {mX10_name : Nat → Option Nat} {mX12_any : Nat → Int32} {mX14_kind : Nat → Int32} {mX16_kind : Nat → Int32} {mX18_first : Nat → Int32} {mX19_either : Nat → Int32} {a : Nat} {v : Int32} (hk : kd a = 7) : va_up (cPC ci d kd an ai al ar mX8_rules mX8_axioms mX8_axiomCount mX8_givens mX8_givenCount mX8_wanted mX8_rows mX8_rowCount mX8_looked mX8_from mX8_needed mX8_broken mX8_places mX8_text mX8_size mX9_kind mX9_a mX9_b mX9_c mX26_rule mX26_instance mX26_premises mX26_count mX26_states mX26_right mX26_size mX10_takes mX10_name mX12_any mX14_kind mX16_kind mX18_first mX19_either) a (.inr (ci 6, [.int v, va_rf (mX10_name a), .int (mX14_kind a)])) = (cPC ci d kd an ai al ar mX8_rules mX8_axioms mX8_axiomCount mX8_givens mX8_givenCount mX8_wanted mX8_rows mX8_rowCount mX8_looked mX8_from mX8_needed mX8_broken mX8_places mX8_text mX8_size mX9_kind mX9_a mX9_b mX9_c mX26_rule mX26_instance mX26_premises mX26_count mX26_states mX26_right mX26_size (va_up mX10_takes a v) mX10_name mX12_any mX14_kind mX16_kind mX18_first mX19_either) := by
  funext b
  by_cases h : b = a
  · subst h
    rw [va_up_self]
    unfold cPC
    rw [hk]
    simp only [va_up_self]
  · rw [va_up_ne _ _ h]
    unfold cPC
    simp only [va_up_ne _ _ h]
theorem cPC_7_1 {ci : Nat → Nat} {d : Nat → ClassId} {kd : Nat → Nat} {an : Nat → Nat} {ai : Nat → Nat → Int32} {al : Nat → Nat → Int64} {ar : Nat → Nat → Option Nat} {mX8_rules : Nat → Option Nat} {mX8_axioms : Nat → Option Nat} {mX8_axiomCount : Nat → Int32} {mX8_givens : Nat → Option Nat} {mX8_givenCount : Nat → Int32} {mX8_wanted : Nat → Option Nat} {mX8_rows : Nat → Option Nat} {mX8_rowCount : Nat → Int32} {mX8_looked : Nat → Int32} {mX8_from : Nat → Option Nat} {mX8_needed : Nat → Option Nat} {mX8_broken : Nat → Int32} {mX8_places : Nat → Option Nat} {mX8_text : Nat → Option Nat} {mX8_size : Nat → Int32} {mX9_kind : Nat → Int32} {mX9_a : Nat → Int32} {mX9_b : Nat → Int32} {mX9_c : Nat → Int32} {mX26_rule : Nat → Int32} {mX26_instance : Nat → Int32} {mX26_premises : Nat → Option Nat} {mX26_count : Nat → Int32} {mX26_states : Nat → Option Nat} {mX26_right : Nat → Int32} {mX26_size : Nat → Int32} {mX10_takes : Nat → Int32} {mX10_name : Nat → Option Nat} {mX12_any : Nat → Int32} {mX14_kind : Nat → Int32} {mX16_kind : Nat → Int32} {mX18_first : Nat → Int32} {mX19_either : Nat → Int32} {a : Nat} {v : Option Nat} (hk : kd a = 7) : va_up (cPC ci d kd an ai al ar mX8_rules mX8_axioms mX8_axiomCount mX8_givens mX8_givenCount mX8_wanted mX8_rows mX8_rowCount mX8_looked mX8_from mX8_needed mX8_broken mX8_places mX8_text mX8_size mX9_kind mX9_a mX9_b mX9_c mX26_rule mX26_instance mX26_premises mX26_count mX26_states mX26_right mX26_size mX10_takes mX10_name mX12_any mX14_kind mX16_kind mX18_first mX19_either) a (.inr (ci 6, [.int (mX10_takes a), va_rf v, .int (mX14_kind a)])) = (cPC ci d kd an ai al ar mX8_rules mX8_axioms mX8_axiomCount mX8_givens mX8_givenCount mX8_wanted mX8_rows mX8_rowCount mX8_looked mX8_from mX8_needed mX8_broken mX8_places mX8_text mX8_size mX9_kind mX9_a mX9_b mX9_c mX26_rule mX26_instance mX26_premises mX26_count mX26_states mX26_right mX26_size mX10_takes (va_up mX10_name a v) mX12_any mX14_kind mX16_kind mX18_first mX19_either) := by
  funext b
  by_cases h : b = a
  · subst h
    rw [va_up_self]
    unfold cPC
    rw [hk]
    simp only [va_up_self]
  · rw [va_up_ne _ _ h]
    unfold cPC
    simp only [va_up_ne _ _ h]
theorem cPC_7_2 {ci : Nat → Nat} {d : Nat → ClassId} {kd : Nat → Nat} {an : Nat → Nat} {ai : Nat → Nat → Int32} {al : Nat → Nat → Int64} {ar : Nat → Nat → Option Nat} {mX8_rules : Nat → Option Nat} {mX8_axioms : Nat → Option Nat} {mX8_axiomCount : Nat → Int32} {mX8_givens : Nat → Option Nat} {mX8_givenCount : Nat → Int32} {mX8_wanted : Nat → Option Nat} {mX8_rows : Nat → Option Nat} {mX8_rowCount : Nat → Int32} {mX8_looked : Nat → Int32} {mX8_from : Nat → Option Nat} {mX8_needed : Nat → Option Nat} {mX8_broken : Nat → Int32} {mX8_places : Nat → Option Nat} {mX8_text : Nat → Option Nat} {mX8_size : Nat → Int32} {mX9_kind : Nat → Int32} {mX9_a : Nat → Int32} {mX9_b : Nat → Int32} {mX9_c : Nat → Int32} {mX26_rule : Nat → Int32} {mX26_instance : Nat → Int32} {mX26_premises : Nat → Option Nat} {mX26_count : Nat → Int32} {mX26_states : Nat → Option Nat} {mX26_right : Nat → Int32} {mX26_size : Nat → Int32} {mX10_takes : Nat → Int32} {mX10_name : Nat → Option Nat} {mX12_any : Nat → Int32} {mX14_kind : Nat → Int32} {mX16_kind : Nat → Int32} {mX18_first : Nat → Int32} {mX19_either : Nat → Int32} {a : Nat} {v : Int32} (hk : kd a = 7) : va_up (cPC ci d kd an ai al ar mX8_rules mX8_axioms mX8_axiomCount mX8_givens mX8_givenCount mX8_wanted mX8_rows mX8_rowCount mX8_looked mX8_from mX8_needed mX8_broken mX8_places mX8_text mX8_size mX9_kind mX9_a mX9_b mX9_c mX26_rule mX26_instance mX26_premises mX26_count mX26_states mX26_right mX26_size mX10_takes mX10_name mX12_any mX14_kind mX16_kind mX18_first mX19_either) a (.inr (ci 6, [.int (mX10_takes a), va_rf (mX10_name a), .int v])) = (cPC ci d kd an ai al ar mX8_rules mX8_axioms mX8_axiomCount mX8_givens mX8_givenCount mX8_wanted mX8_rows mX8_rowCount mX8_looked mX8_from mX8_needed mX8_broken mX8_places mX8_text mX8_size mX9_kind mX9_a mX9_b mX9_c mX26_rule mX26_instance mX26_premises mX26_count mX26_states mX26_right mX26_size mX10_takes mX10_name mX12_any (va_up mX14_kind a v) mX16_kind mX18_first mX19_either) := by
  funext b
  by_cases h : b = a
  · subst h
    rw [va_up_self]
    unfold cPC
    rw [hk]
    simp only [va_up_self]
  · rw [va_up_ne _ _ h]
    unfold cPC
    simp only [va_up_ne _ _ h]
theorem cPC_7_n {ci : Nat → Nat} {d : Nat → ClassId} {kd : Nat → Nat} {an : Nat → Nat} {ai : Nat → Nat → Int32} {al : Nat → Nat → Int64} {ar : Nat → Nat → Option Nat} {mX8_rules : Nat → Option Nat} {mX8_axioms : Nat → Option Nat} {mX8_axiomCount : Nat → Int32} {mX8_givens : Nat → Option Nat} {mX8_givenCount : Nat → Int32} {mX8_wanted : Nat → Option Nat} {mX8_rows : Nat → Option Nat} {mX8_rowCount : Nat → Int32} {mX8_looked : Nat → Int32} {mX8_from : Nat → Option Nat} {mX8_needed : Nat → Option Nat} {mX8_broken : Nat → Int32} {mX8_places : Nat → Option Nat} {mX8_text : Nat → Option Nat} {mX8_size : Nat → Int32} {mX9_kind : Nat → Int32} {mX9_a : Nat → Int32} {mX9_b : Nat → Int32} {mX9_c : Nat → Int32} {mX26_rule : Nat → Int32} {mX26_instance : Nat → Int32} {mX26_premises : Nat → Option Nat} {mX26_count : Nat → Int32} {mX26_states : Nat → Option Nat} {mX26_right : Nat → Int32} {mX26_size : Nat → Int32} {mX10_takes : Nat → Int32} {mX10_name : Nat → Option Nat} {mX12_any : Nat → Int32} {mX14_kind : Nat → Int32} {mX16_kind : Nat → Int32} {mX18_first : Nat → Int32} {mX19_either : Nat → Int32} (q : Nat) : va_up (cPC ci d kd an ai al ar mX8_rules mX8_axioms mX8_axiomCount mX8_givens mX8_givenCount mX8_wanted mX8_rows mX8_rowCount mX8_looked mX8_from mX8_needed mX8_broken mX8_places mX8_text mX8_size mX9_kind mX9_a mX9_b mX9_c mX26_rule mX26_instance mX26_premises mX26_count mX26_states mX26_right mX26_size mX10_takes mX10_name mX12_any mX14_kind mX16_kind mX18_first mX19_either) q (.inr (ci 6, [.int 0, va_rf none, .int 0])) = (cPC ci d (va_up kd q 7) an ai al ar mX8_rules mX8_axioms mX8_axiomCount mX8_givens mX8_givenCount mX8_wanted mX8_rows mX8_rowCount mX8_looked mX8_from mX8_needed mX8_broken mX8_places mX8_text mX8_size mX9_kind mX9_a mX9_b mX9_c mX26_rule mX26_instance mX26_premises mX26_count mX26_states mX26_right mX26_size (va_up mX10_takes q 0) (va_up mX10_name q none) mX12_any (va_up mX14_kind q 0) mX16_kind mX18_first mX19_either) := by
  funext b
  by_cases h : b = q
  · subst h
    rw [va_up_self]
    unfold cPC
    simp only [va_up_self]
  · rw [va_up_ne _ _ h]
    unfold cPC
    simp only [va_up_ne _ _ h]
theorem cPC_8 {ci : Nat → Nat} {d : Nat → ClassId} {kd : Nat → Nat} {an : Nat → Nat} {ai : Nat → Nat → Int32} {al : Nat → Nat → Int64} {ar : Nat → Nat → Option Nat} {mX8_rules : Nat → Option Nat} {mX8_axioms : Nat → Option Nat} {mX8_axiomCount : Nat → Int32} {mX8_givens : Nat → Option Nat} {mX8_givenCount : Nat → Int32} {mX8_wanted : Nat → Option Nat} {mX8_rows : Nat → Option Nat} {mX8_rowCount : Nat → Int32} {mX8_looked : Nat → Int32} {mX8_from : Nat → Option Nat} {mX8_needed : Nat → Option Nat} {mX8_broken : Nat → Int32} {mX8_places : Nat → Option Nat} {mX8_text : Nat → Option Nat} {mX8_size : Nat → Int32} {mX9_kind : Nat → Int32} {mX9_a : Nat → Int32} {mX9_b : Nat → Int32} {mX9_c : Nat → Int32} {mX26_rule : Nat → Int32} {mX26_instance : Nat → Int32} {mX26_premises : Nat → Option Nat} {mX26_count : Nat → Int32} {mX26_states : Nat → Option Nat} {mX26_right : Nat → Int32} {mX26_size : Nat → Int32} {mX10_takes : Nat → Int32} {mX10_name : Nat → Option Nat} {mX12_any : Nat → Int32} {mX14_kind : Nat → Int32} {mX16_kind : Nat → Int32} {mX18_first : Nat → Int32} {mX19_either : Nat → Int32} {a : Nat} (hk : kd a = 8) : (cPC ci d kd an ai al ar mX8_rules mX8_axioms mX8_axiomCount mX8_givens mX8_givenCount mX8_wanted mX8_rows mX8_rowCount mX8_looked mX8_from mX8_needed mX8_broken mX8_places mX8_text mX8_size mX9_kind mX9_a mX9_b mX9_c mX26_rule mX26_instance mX26_premises mX26_count mX26_states mX26_right mX26_size mX10_takes mX10_name mX12_any mX14_kind mX16_kind mX18_first mX19_either) a = .inr (ci 7, [.int (mX10_takes a), va_rf (mX10_name a)]) := by unfold cPC; simp only [hk]
theorem cPC_8_0 {ci : Nat → Nat} {d : Nat → ClassId} {kd : Nat → Nat} {an : Nat → Nat} {ai : Nat → Nat → Int32} {al : Nat → Nat → Int64} {ar : Nat → Nat → Option Nat} {mX8_rules : Nat → Option Nat} {mX8_axioms : Nat → Option Nat} {mX8_axiomCount : Nat → Int32} {mX8_givens : Nat → Option Nat} {mX8_givenCount : Nat → Int32} {mX8_wanted : Nat → Option Nat} {mX8_rows : Nat → Option Nat} {mX8_rowCount : Nat → Int32} {mX8_looked : Nat → Int32} {mX8_from : Nat → Option Nat} {mX8_needed : Nat → Option Nat} {mX8_broken : Nat → Int32} {mX8_places : Nat → Option Nat} {mX8_text : Nat → Option Nat} {mX8_size : Nat → Int32} {mX9_kind : Nat → Int32} {mX9_a : Nat → Int32} {mX9_b : Nat → Int32} {mX9_c : Nat → Int32} {mX26_rule : Nat → Int32} {mX26_instance : Nat → Int32} {mX26_premises : Nat → Option Nat} {mX26_count : Nat → Int32} {mX26_states : Nat → Option Nat} {mX26_right : Nat → Int32} {mX26_size : Nat → Int32} {mX10_takes : Nat → Int32} {mX10_name : Nat → Option Nat} {mX12_any : Nat → Int32} {mX14_kind : Nat → Int32} {mX16_kind : Nat → Int32} {mX18_first : Nat → Int32} {mX19_either : Nat → Int32} {a : Nat} {v : Int32} (hk : kd a = 8) : va_up (cPC ci d kd an ai al ar mX8_rules mX8_axioms mX8_axiomCount mX8_givens mX8_givenCount mX8_wanted mX8_rows mX8_rowCount mX8_looked mX8_from mX8_needed mX8_broken mX8_places mX8_text mX8_size mX9_kind mX9_a mX9_b mX9_c mX26_rule mX26_instance mX26_premises mX26_count mX26_states mX26_right mX26_size mX10_takes mX10_name mX12_any mX14_kind mX16_kind mX18_first mX19_either) a (.inr (ci 7, [.int v, va_rf (mX10_name a)])) = (cPC ci d kd an ai al ar mX8_rules mX8_axioms mX8_axiomCount mX8_givens mX8_givenCount mX8_wanted mX8_rows mX8_rowCount mX8_looked mX8_from mX8_needed mX8_broken mX8_places mX8_text mX8_size mX9_kind mX9_a mX9_b mX9_c mX26_rule mX26_instance mX26_premises mX26_count mX26_states mX26_right mX26_size (va_up mX10_takes a v) mX10_name mX12_any mX14_kind mX16_kind mX18_first mX19_either) := by
  funext b
  by_cases h : b = a
  · subst h
    rw [va_up_self]
    unfold cPC
    rw [hk]
    simp only [va_up_self]
  · rw [va_up_ne _ _ h]
    unfold cPC
    simp only [va_up_ne _ _ h]
theorem cPC_8_1 {ci : Nat → Nat} {d : Nat → ClassId} {kd : Nat → Nat} {an : Nat → Nat} {ai : Nat → Nat → Int32} {al : Nat → Nat → Int64} {ar : Nat → Nat → Option Nat} {mX8_rules : Nat → Option Nat} {mX8_axioms : Nat → Option Nat} {mX8_axiomCount : Nat → Int32} {mX8_givens : Nat → Option Nat} {mX8_givenCount : Nat → Int32} {mX8_wanted : Nat → Option Nat} {mX8_rows : Nat → Option Nat} {mX8_rowCount : Nat → Int32} {mX8_looked : Nat → Int32} {mX8_from : Nat → Option Nat} {mX8_needed : Nat → Option Nat} {mX8_broken : Nat → Int32} {mX8_places : Nat → Option Nat} {mX8_text : Nat → Option Nat} {mX8_size : Nat → Int32} {mX9_kind : Nat → Int32} {mX9_a : Nat → Int32} {mX9_b : Nat → Int32} {mX9_c : Nat → Int32} {mX26_rule : Nat → Int32} {mX26_instance : Nat → Int32} {mX26_premises : Nat → Option Nat} {mX26_count : Nat → Int32} {mX26_states : Nat → Option Nat} {mX26_right : Nat → Int32} {mX26_size : Nat → Int32} {mX10_takes : Nat → Int32} {mX10_name : Nat → Option Nat} {mX12_any : Nat → Int32} {mX14_kind : Nat → Int32} {mX16_kind : Nat → Int32} {mX18_first : Nat → Int32} {mX19_either : Nat → Int32} {a : Nat} {v : Option Nat} (hk : kd a = 8) : va_up (cPC ci d kd an ai al ar mX8_rules mX8_axioms mX8_axiomCount mX8_givens mX8_givenCount mX8_wanted mX8_rows mX8_rowCount mX8_looked mX8_from mX8_needed mX8_broken mX8_places mX8_text mX8_size mX9_kind mX9_a mX9_b mX9_c mX26_rule mX26_instance mX26_premises mX26_count mX26_states mX26_right mX26_size mX10_takes mX10_name mX12_any mX14_kind mX16_kind mX18_first mX19_either) a (.inr (ci 7, [.int (mX10_takes a), va_rf v])) = (cPC ci d kd an ai al ar mX8_rules mX8_axioms mX8_axiomCount mX8_givens mX8_givenCount mX8_wanted mX8_rows mX8_rowCount mX8_looked mX8_from mX8_needed mX8_broken mX8_places mX8_text mX8_size mX9_kind mX9_a mX9_b mX9_c mX26_rule mX26_instance mX26_premises mX26_count mX26_states mX26_right mX26_size mX10_takes (va_up mX10_name a v) mX12_any mX14_kind mX16_kind mX18_first mX19_either) := by
  funext b
  by_cases h : b = a
  · subst h
    rw [va_up_self]
    unfold cPC
    rw [hk]
    simp only [va_up_self]
  · rw [va_up_ne _ _ h]
    unfold cPC
    simp only [va_up_ne _ _ h]
theorem cPC_8_n {ci : Nat → Nat} {d : Nat → ClassId} {kd : Nat → Nat} {an : Nat → Nat} {ai : Nat → Nat → Int32} {al : Nat → Nat → Int64} {ar : Nat → Nat → Option Nat} {mX8_rules : Nat → Option Nat} {mX8_axioms : Nat → Option Nat} {mX8_axiomCount : Nat → Int32} {mX8_givens : Nat → Option Nat} {mX8_givenCount : Nat → Int32} {mX8_wanted : Nat → Option Nat} {mX8_rows : Nat → Option Nat} {mX8_rowCount : Nat → Int32} {mX8_looked : Nat → Int32} {mX8_from : Nat → Option Nat} {mX8_needed : Nat → Option Nat} {mX8_broken : Nat → Int32} {mX8_places : Nat → Option Nat} {mX8_text : Nat → Option Nat} {mX8_size : Nat → Int32} {mX9_kind : Nat → Int32} {mX9_a : Nat → Int32} {mX9_b : Nat → Int32} {mX9_c : Nat → Int32} {mX26_rule : Nat → Int32} {mX26_instance : Nat → Int32} {mX26_premises : Nat → Option Nat} {mX26_count : Nat → Int32} {mX26_states : Nat → Option Nat} {mX26_right : Nat → Int32} {mX26_size : Nat → Int32} {mX10_takes : Nat → Int32} {mX10_name : Nat → Option Nat} {mX12_any : Nat → Int32} {mX14_kind : Nat → Int32} {mX16_kind : Nat → Int32} {mX18_first : Nat → Int32} {mX19_either : Nat → Int32} (q : Nat) : va_up (cPC ci d kd an ai al ar mX8_rules mX8_axioms mX8_axiomCount mX8_givens mX8_givenCount mX8_wanted mX8_rows mX8_rowCount mX8_looked mX8_from mX8_needed mX8_broken mX8_places mX8_text mX8_size mX9_kind mX9_a mX9_b mX9_c mX26_rule mX26_instance mX26_premises mX26_count mX26_states mX26_right mX26_size mX10_takes mX10_name mX12_any mX14_kind mX16_kind mX18_first mX19_either) q (.inr (ci 7, [.int 0, va_rf none])) = (cPC ci d (va_up kd q 8) an ai al ar mX8_rules mX8_axioms mX8_axiomCount mX8_givens mX8_givenCount mX8_wanted mX8_rows mX8_rowCount mX8_looked mX8_from mX8_needed mX8_broken mX8_places mX8_text mX8_size mX9_kind mX9_a mX9_b mX9_c mX26_rule mX26_instance mX26_premises mX26_count mX26_states mX26_right mX26_size (va_up mX10_takes q 0) (va_up mX10_name q none) mX12_any mX14_kind mX16_kind mX18_first mX19_either) := by
  funext b
  by_cases h : b = q
  · subst h
    rw [va_up_self]
    unfold cPC
    simp only [va_up_self]
  · rw [va_up_ne _ _ h]
    unfold cPC
    simp only [va_up_ne _ _ h]
theorem cPC_9 {ci : Nat → Nat} {d : Nat → ClassId} {kd : Nat → Nat} {an : Nat → Nat} {ai : Nat → Nat → Int32} {al : Nat → Nat → Int64} {ar : Nat → Nat → Option Nat} {mX8_rules : Nat → Option Nat} {mX8_axioms : Nat → Option Nat} {mX8_axiomCount : Nat → Int32} {mX8_givens : Nat → Option Nat} {mX8_givenCount : Nat → Int32} {mX8_wanted : Nat → Option Nat} {mX8_rows : Nat → Option Nat} {mX8_rowCount : Nat → Int32} {mX8_looked : Nat → Int32} {mX8_from : Nat → Option Nat} {mX8_needed : Nat → Option Nat} {mX8_broken : Nat → Int32} {mX8_places : Nat → Option Nat} {mX8_text : Nat → Option Nat} {mX8_size : Nat → Int32} {mX9_kind : Nat → Int32} {mX9_a : Nat → Int32} {mX9_b : Nat → Int32} {mX9_c : Nat → Int32} {mX26_rule : Nat → Int32} {mX26_instance : Nat → Int32} {mX26_premises : Nat → Option Nat} {mX26_count : Nat → Int32} {mX26_states : Nat → Option Nat} {mX26_right : Nat → Int32} {mX26_size : Nat → Int32} {mX10_takes : Nat → Int32} {mX10_name : Nat → Option Nat} {mX12_any : Nat → Int32} {mX14_kind : Nat → Int32} {mX16_kind : Nat → Int32} {mX18_first : Nat → Int32} {mX19_either : Nat → Int32} {a : Nat} (hk : kd a = 9) : (cPC ci d kd an ai al ar mX8_rules mX8_axioms mX8_axiomCount mX8_givens mX8_givenCount mX8_wanted mX8_rows mX8_rowCount mX8_looked mX8_from mX8_needed mX8_broken mX8_places mX8_text mX8_size mX9_kind mX9_a mX9_b mX9_c mX26_rule mX26_instance mX26_premises mX26_count mX26_states mX26_right mX26_size mX10_takes mX10_name mX12_any mX14_kind mX16_kind mX18_first mX19_either) a = .inr (ci 8, [.int (mX16_kind a), .int (mX10_takes a), va_rf (mX10_name a)]) := by unfold cPC; simp only [hk]
theorem cPC_9_0 {ci : Nat → Nat} {d : Nat → ClassId} {kd : Nat → Nat} {an : Nat → Nat} {ai : Nat → Nat → Int32} {al : Nat → Nat → Int64} {ar : Nat → Nat → Option Nat} {mX8_rules : Nat → Option Nat} {mX8_axioms : Nat → Option Nat} {mX8_axiomCount : Nat → Int32} {mX8_givens : Nat → Option Nat} {mX8_givenCount : Nat → Int32} {mX8_wanted : Nat → Option Nat} {mX8_rows : Nat → Option Nat} {mX8_rowCount : Nat → Int32} {mX8_looked : Nat → Int32} {mX8_from : Nat → Option Nat} {mX8_needed : Nat → Option Nat} {mX8_broken : Nat → Int32} {mX8_places : Nat → Option Nat} {mX8_text : Nat → Option Nat} {mX8_size : Nat → Int32} {mX9_kind : Nat → Int32} {mX9_a : Nat → Int32} {mX9_b : Nat → Int32} {mX9_c : Nat → Int32} {mX26_rule : Nat → Int32} {mX26_instance : Nat → Int32} {mX26_premises : Nat → Option Nat} {mX26_count : Nat → Int32} {mX26_states : Nat → Option Nat} {mX26_right : Nat → Int32} {mX26_size : Nat → Int32} {mX10_takes : Nat → Int32} {mX10_name : Nat → Option Nat} {mX12_any : Nat → Int32} {mX14_kind : Nat → Int32} {mX16_kind : Nat → Int32} {mX18_first : Nat → Int32} {mX19_either : Nat → Int32} {a : Nat} {v : Int32} (hk : kd a = 9) : va_up (cPC ci d kd an ai al ar mX8_rules mX8_axioms mX8_axiomCount mX8_givens mX8_givenCount mX8_wanted mX8_rows mX8_rowCount mX8_looked mX8_from mX8_needed mX8_broken mX8_places mX8_text mX8_size mX9_kind mX9_a mX9_b mX9_c mX26_rule mX26_instance mX26_premises mX26_count mX26_states mX26_right mX26_size mX10_takes mX10_name mX12_any mX14_kind mX16_kind mX18_first mX19_either) a (.inr (ci 8, [.int v, .int (mX10_takes a), va_rf (mX10_name a)])) = (cPC ci d kd an ai al ar mX8_rules mX8_axioms mX8_axiomCount mX8_givens mX8_givenCount mX8_wanted mX8_rows mX8_rowCount mX8_looked mX8_from mX8_needed mX8_broken mX8_places mX8_text mX8_size mX9_kind mX9_a mX9_b mX9_c mX26_rule mX26_instance mX26_premises mX26_count mX26_states mX26_right mX26_size mX10_takes mX10_name mX12_any mX14_kind (va_up mX16_kind a v) mX18_first mX19_either) := by
  funext b
  by_cases h : b = a
  · subst h
    rw [va_up_self]
    unfold cPC
    rw [hk]
    simp only [va_up_self]
  · rw [va_up_ne _ _ h]
    unfold cPC
    simp only [va_up_ne _ _ h]
theorem cPC_9_1 {ci : Nat → Nat} {d : Nat → ClassId} {kd : Nat → Nat} {an : Nat → Nat} {ai : Nat → Nat → Int32} {al : Nat → Nat → Int64} {ar : Nat → Nat → Option Nat} {mX8_rules : Nat → Option Nat} {mX8_axioms : Nat → Option Nat} {mX8_axiomCount : Nat → Int32} {mX8_givens : Nat → Option Nat} {mX8_givenCount : Nat → Int32} {mX8_wanted : Nat → Option Nat} {mX8_rows : Nat → Option Nat} {mX8_rowCount : Nat → Int32} {mX8_looked : Nat → Int32} {mX8_from : Nat → Option Nat} {mX8_needed : Nat → Option Nat} {mX8_broken : Nat → Int32} {mX8_places : Nat → Option Nat} {mX8_text : Nat → Option Nat} {mX8_size : Nat → Int32} {mX9_kind : Nat → Int32} {mX9_a : Nat → Int32} {mX9_b : Nat → Int32} {mX9_c : Nat → Int32} {mX26_rule : Nat → Int32} {mX26_instance : Nat → Int32} {mX26_premises : Nat → Option Nat} {mX26_count : Nat → Int32} {mX26_states : Nat → Option Nat} {mX26_right : Nat → Int32} {mX26_size : Nat → Int32} {mX10_takes : Nat → Int32} {mX10_name : Nat → Option Nat} {mX12_any : Nat → Int32} {mX14_kind : Nat → Int32} {mX16_kind : Nat → Int32} {mX18_first : Nat → Int32} {mX19_either : Nat → Int32} {a : Nat} {v : Int32} (hk : kd a = 9) : va_up (cPC ci d kd an ai al ar mX8_rules mX8_axioms mX8_axiomCount mX8_givens mX8_givenCount mX8_wanted mX8_rows mX8_rowCount mX8_looked mX8_from mX8_needed mX8_broken mX8_places mX8_text mX8_size mX9_kind mX9_a mX9_b mX9_c mX26_rule mX26_instance mX26_premises mX26_count mX26_states mX26_right mX26_size mX10_takes mX10_name mX12_any mX14_kind mX16_kind mX18_first mX19_either) a (.inr (ci 8, [.int (mX16_kind a), .int v, va_rf (mX10_name a)])) = (cPC ci d kd an ai al ar mX8_rules mX8_axioms mX8_axiomCount mX8_givens mX8_givenCount mX8_wanted mX8_rows mX8_rowCount mX8_looked mX8_from mX8_needed mX8_broken mX8_places mX8_text mX8_size mX9_kind mX9_a mX9_b mX9_c mX26_rule mX26_instance mX26_premises mX26_count mX26_states mX26_right mX26_size (va_up mX10_takes a v) mX10_name mX12_any mX14_kind mX16_kind mX18_first mX19_either) := by
  funext b
  by_cases h : b = a
  · subst h
    rw [va_up_self]
    unfold cPC
    rw [hk]
    simp only [va_up_self]
  · rw [va_up_ne _ _ h]
    unfold cPC
    simp only [va_up_ne _ _ h]
theorem cPC_9_2 {ci : Nat → Nat} {d : Nat → ClassId} {kd : Nat → Nat} {an : Nat → Nat} {ai : Nat → Nat → Int32} {al : Nat → Nat → Int64} {ar : Nat → Nat → Option Nat} {mX8_rules : Nat → Option Nat} {mX8_axioms : Nat → Option Nat} {mX8_axiomCount : Nat → Int32} {mX8_givens : Nat → Option Nat} {mX8_givenCount : Nat → Int32} {mX8_wanted : Nat → Option Nat} {mX8_rows : Nat → Option Nat} {mX8_rowCount : Nat → Int32} {mX8_looked : Nat → Int32} {mX8_from : Nat → Option Nat} {mX8_needed : Nat → Option Nat} {mX8_broken : Nat → Int32} {mX8_places : Nat → Option Nat} {mX8_text : Nat → Option Nat} {mX8_size : Nat → Int32} {mX9_kind : Nat → Int32} {mX9_a : Nat → Int32} {mX9_b : Nat → Int32} {mX9_c : Nat → Int32} {mX26_rule : Nat → Int32} {mX26_instance : Nat → Int32} {mX26_premises : Nat → Option Nat} {mX26_count : Nat → Int32} {mX26_states : Nat → Option Nat} {mX26_right : Nat → Int32} {mX26_size : Nat → Int32} {mX10_takes : Nat → Int32} {mX10_name : Nat → Option Nat} {mX12_any : Nat → Int32} {mX14_kind : Nat → Int32} {mX16_kind : Nat → Int32} {mX18_first : Nat → Int32} {mX19_either : Nat → Int32} {a : Nat} {v : Option Nat} (hk : kd a = 9) : va_up (cPC ci d kd an ai al ar mX8_rules mX8_axioms mX8_axiomCount mX8_givens mX8_givenCount mX8_wanted mX8_rows mX8_rowCount mX8_looked mX8_from mX8_needed mX8_broken mX8_places mX8_text mX8_size mX9_kind mX9_a mX9_b mX9_c mX26_rule mX26_instance mX26_premises mX26_count mX26_states mX26_right mX26_size mX10_takes mX10_name mX12_any mX14_kind mX16_kind mX18_first mX19_either) a (.inr (ci 8, [.int (mX16_kind a), .int (mX10_takes a), va_rf v])) = (cPC ci d kd an ai al ar mX8_rules mX8_axioms mX8_axiomCount mX8_givens mX8_givenCount mX8_wanted mX8_rows mX8_rowCount mX8_looked mX8_from mX8_needed mX8_broken mX8_places mX8_text mX8_size mX9_kind mX9_a mX9_b mX9_c mX26_rule mX26_instance mX26_premises mX26_count mX26_states mX26_right mX26_size mX10_takes (va_up mX10_name a v) mX12_any mX14_kind mX16_kind mX18_first mX19_either) := by
  funext b
  by_cases h : b = a
  · subst h
    rw [va_up_self]
    unfold cPC
    rw [hk]
    simp only [va_up_self]
  · rw [va_up_ne _ _ h]
    unfold cPC
    simp only [va_up_ne _ _ h]
theorem cPC_9_n {ci : Nat → Nat} {d : Nat → ClassId} {kd : Nat → Nat} {an : Nat → Nat} {ai : Nat → Nat → Int32} {al : Nat → Nat → Int64} {ar : Nat → Nat → Option Nat} {mX8_rules : Nat → Option Nat} {mX8_axioms : Nat → Option Nat} {mX8_axiomCount : Nat → Int32} {mX8_givens : Nat → Option Nat} {mX8_givenCount : Nat → Int32} {mX8_wanted : Nat → Option Nat} {mX8_rows : Nat → Option Nat} {mX8_rowCount : Nat → Int32} {mX8_looked : Nat → Int32} {mX8_from : Nat → Option Nat} {mX8_needed : Nat → Option Nat} {mX8_broken : Nat → Int32} {mX8_places : Nat → Option Nat} {mX8_text : Nat → Option Nat} {mX8_size : Nat → Int32} {mX9_kind : Nat → Int32} {mX9_a : Nat → Int32} {mX9_b : Nat → Int32} {mX9_c : Nat → Int32} {mX26_rule : Nat → Int32} {mX26_instance : Nat → Int32} {mX26_premises : Nat → Option Nat} {mX26_count : Nat → Int32} {mX26_states : Nat → Option Nat} {mX26_right : Nat → Int32} {mX26_size : Nat → Int32} {mX10_takes : Nat → Int32} {mX10_name : Nat → Option Nat} {mX12_any : Nat → Int32} {mX14_kind : Nat → Int32} {mX16_kind : Nat → Int32} {mX18_first : Nat → Int32} {mX19_either : Nat → Int32} (q : Nat) : va_up (cPC ci d kd an ai al ar mX8_rules mX8_axioms mX8_axiomCount mX8_givens mX8_givenCount mX8_wanted mX8_rows mX8_rowCount mX8_looked mX8_from mX8_needed mX8_broken mX8_places mX8_text mX8_size mX9_kind mX9_a mX9_b mX9_c mX26_rule mX26_instance mX26_premises mX26_count mX26_states mX26_right mX26_size mX10_takes mX10_name mX12_any mX14_kind mX16_kind mX18_first mX19_either) q (.inr (ci 8, [.int 0, .int 0, va_rf none])) = (cPC ci d (va_up kd q 9) an ai al ar mX8_rules mX8_axioms mX8_axiomCount mX8_givens mX8_givenCount mX8_wanted mX8_rows mX8_rowCount mX8_looked mX8_from mX8_needed mX8_broken mX8_places mX8_text mX8_size mX9_kind mX9_a mX9_b mX9_c mX26_rule mX26_instance mX26_premises mX26_count mX26_states mX26_right mX26_size (va_up mX10_takes q 0) (va_up mX10_name q none) mX12_any mX14_kind (va_up mX16_kind q 0) mX18_first mX19_either) := by
  funext b
  by_cases h : b = q
  · subst h
    rw [va_up_self]
    unfold cPC
    simp only [va_up_self]
  · rw [va_up_ne _ _ h]
    unfold cPC
    simp only [va_up_ne _ _ h]
theorem cPC_10 {ci : Nat → Nat} {d : Nat → ClassId} {kd : Nat → Nat} {an : Nat → Nat} {ai : Nat → Nat → Int32} {al : Nat → Nat → Int64} {ar : Nat → Nat → Option Nat} {mX8_rules : Nat → Option Nat} {mX8_axioms : Nat → Option Nat} {mX8_axiomCount : Nat → Int32} {mX8_givens : Nat → Option Nat} {mX8_givenCount : Nat → Int32} {mX8_wanted : Nat → Option Nat} {mX8_rows : Nat → Option Nat} {mX8_rowCount : Nat → Int32} {mX8_looked : Nat → Int32} {mX8_from : Nat → Option Nat} {mX8_needed : Nat → Option Nat} {mX8_broken : Nat → Int32} {mX8_places : Nat → Option Nat} {mX8_text : Nat → Option Nat} {mX8_size : Nat → Int32} {mX9_kind : Nat → Int32} {mX9_a : Nat → Int32} {mX9_b : Nat → Int32} {mX9_c : Nat → Int32} {mX26_rule : Nat → Int32} {mX26_instance : Nat → Int32} {mX26_premises : Nat → Option Nat} {mX26_count : Nat → Int32} {mX26_states : Nat → Option Nat} {mX26_right : Nat → Int32} {mX26_size : Nat → Int32} {mX10_takes : Nat → Int32} {mX10_name : Nat → Option Nat} {mX12_any : Nat → Int32} {mX14_kind : Nat → Int32} {mX16_kind : Nat → Int32} {mX18_first : Nat → Int32} {mX19_either : Nat → Int32} {a : Nat} (hk : kd a = 10) : (cPC ci d kd an ai al ar mX8_rules mX8_axioms mX8_axiomCount mX8_givens mX8_givenCount mX8_wanted mX8_rows mX8_rowCount mX8_looked mX8_from mX8_needed mX8_broken mX8_places mX8_text mX8_size mX9_kind mX9_a mX9_b mX9_c mX26_rule mX26_instance mX26_premises mX26_count mX26_states mX26_right mX26_size mX10_takes mX10_name mX12_any mX14_kind mX16_kind mX18_first mX19_either) a = .inr (ci 9, [.int (mX16_kind a), .int (mX10_takes a), va_rf (mX10_name a), .int (mX18_first a)]) := by unfold cPC; simp only [hk]
theorem cPC_10_0 {ci : Nat → Nat} {d : Nat → ClassId} {kd : Nat → Nat} {an : Nat → Nat} {ai : Nat → Nat → Int32} {al : Nat → Nat → Int64} {ar : Nat → Nat → Option Nat} {mX8_rules : Nat → Option Nat} {mX8_axioms : Nat → Option Nat} {mX8_axiomCount : Nat → Int32} {mX8_givens : Nat → Option Nat} {mX8_givenCount : Nat → Int32} {mX8_wanted : Nat → Option Nat} {mX8_rows : Nat → Option Nat} {mX8_rowCount : Nat → Int32} {mX8_looked : Nat → Int32} {mX8_from : Nat → Option Nat} {mX8_needed : Nat → Option Nat} {mX8_broken : Nat → Int32} {mX8_places : Nat → Option Nat} {mX8_text : Nat → Option Nat} {mX8_size : Nat → Int32} {mX9_kind : Nat → Int32} {mX9_a : Nat → Int32} {mX9_b : Nat → Int32} {mX9_c : Nat → Int32} {mX26_rule : Nat → Int32} {mX26_instance : Nat → Int32} {mX26_premises : Nat → Option Nat} {mX26_count : Nat → Int32} {mX26_states : Nat → Option Nat} {mX26_right : Nat → Int32} {mX26_size : Nat → Int32} {mX10_takes : Nat → Int32} {mX10_name : Nat → Option Nat} {mX12_any : Nat → Int32} {mX14_kind : Nat → Int32} {mX16_kind : Nat → Int32} {mX18_first : Nat → Int32} {mX19_either : Nat → Int32} {a : Nat} {v : Int32} (hk : kd a = 10) : va_up (cPC ci d kd an ai al ar mX8_rules mX8_axioms mX8_axiomCount mX8_givens mX8_givenCount mX8_wanted mX8_rows mX8_rowCount mX8_looked mX8_from mX8_needed mX8_broken mX8_places mX8_text mX8_size mX9_kind mX9_a mX9_b mX9_c mX26_rule mX26_instance mX26_premises mX26_count mX26_states mX26_right mX26_size mX10_takes mX10_name mX12_any mX14_kind mX16_kind mX18_first mX19_either) a (.inr (ci 9, [.int v, .int (mX10_takes a), va_rf (mX10_name a), .int (mX18_first a)])) = (cPC ci d kd an ai al ar mX8_rules mX8_axioms mX8_axiomCount mX8_givens mX8_givenCount mX8_wanted mX8_rows mX8_rowCount mX8_looked mX8_from mX8_needed mX8_broken mX8_places mX8_text mX8_size mX9_kind mX9_a mX9_b mX9_c mX26_rule mX26_instance mX26_premises mX26_count mX26_states mX26_right mX26_size mX10_takes mX10_name mX12_any mX14_kind (va_up mX16_kind a v) mX18_first mX19_either) := by
  funext b
  by_cases h : b = a
  · subst h
    rw [va_up_self]
    unfold cPC
    rw [hk]
    simp only [va_up_self]
  · rw [va_up_ne _ _ h]
    unfold cPC
    simp only [va_up_ne _ _ h]
theorem cPC_10_1 {ci : Nat → Nat} {d : Nat → ClassId} {kd : Nat → Nat} {an : Nat → Nat} {ai : Nat → Nat → Int32} {al : Nat → Nat → Int64} {ar : Nat → Nat → Option Nat} {mX8_rules : Nat → Option Nat} {mX8_axioms : Nat → Option Nat} {mX8_axiomCount : Nat → Int32} {mX8_givens : Nat → Option Nat} {mX8_givenCount : Nat → Int32} {mX8_wanted : Nat → Option Nat} {mX8_rows : Nat → Option Nat} {mX8_rowCount : Nat → Int32} {mX8_looked : Nat → Int32} {mX8_from : Nat → Option Nat} {mX8_needed : Nat → Option Nat} {mX8_broken : Nat → Int32} {mX8_places : Nat → Option Nat} {mX8_text : Nat → Option Nat} {mX8_size : Nat → Int32} {mX9_kind : Nat → Int32} {mX9_a : Nat → Int32} {mX9_b : Nat → Int32} {mX9_c : Nat → Int32} {mX26_rule : Nat → Int32} {mX26_instance : Nat → Int32} {mX26_premises : Nat → Option Nat} {mX26_count : Nat → Int32} {mX26_states : Nat → Option Nat} {mX26_right : Nat → Int32} {mX26_size : Nat → Int32} {mX10_takes : Nat → Int32} {mX10_name : Nat → Option Nat} {mX12_any : Nat → Int32} {mX14_kind : Nat → Int32} {mX16_kind : Nat → Int32} {mX18_first : Nat → Int32} {mX19_either : Nat → Int32} {a : Nat} {v : Int32} (hk : kd a = 10) : va_up (cPC ci d kd an ai al ar mX8_rules mX8_axioms mX8_axiomCount mX8_givens mX8_givenCount mX8_wanted mX8_rows mX8_rowCount mX8_looked mX8_from mX8_needed mX8_broken mX8_places mX8_text mX8_size mX9_kind mX9_a mX9_b mX9_c mX26_rule mX26_instance mX26_premises mX26_count mX26_states mX26_right mX26_size mX10_takes mX10_name mX12_any mX14_kind mX16_kind mX18_first mX19_either) a (.inr (ci 9, [.int (mX16_kind a), .int v, va_rf (mX10_name a), .int (mX18_first a)])) = (cPC ci d kd an ai al ar mX8_rules mX8_axioms mX8_axiomCount mX8_givens mX8_givenCount mX8_wanted mX8_rows mX8_rowCount mX8_looked mX8_from mX8_needed mX8_broken mX8_places mX8_text mX8_size mX9_kind mX9_a mX9_b mX9_c mX26_rule mX26_instance mX26_premises mX26_count mX26_states mX26_right mX26_size (va_up mX10_takes a v) mX10_name mX12_any mX14_kind mX16_kind mX18_first mX19_either) := by
  funext b
  by_cases h : b = a
  · subst h
    rw [va_up_self]
    unfold cPC
    rw [hk]
    simp only [va_up_self]
  · rw [va_up_ne _ _ h]
    unfold cPC
    simp only [va_up_ne _ _ h]
theorem cPC_10_2 {ci : Nat → Nat} {d : Nat → ClassId} {kd : Nat → Nat} {an : Nat → Nat} {ai : Nat → Nat → Int32} {al : Nat → Nat → Int64} {ar : Nat → Nat → Option Nat} {mX8_rules : Nat → Option Nat} {mX8_axioms : Nat → Option Nat} {mX8_axiomCount : Nat → Int32} {mX8_givens : Nat → Option Nat} {mX8_givenCount : Nat → Int32} {mX8_wanted : Nat → Option Nat} {mX8_rows : Nat → Option Nat} {mX8_rowCount : Nat → Int32} {mX8_looked : Nat → Int32} {mX8_from : Nat → Option Nat} {mX8_needed : Nat → Option Nat} {mX8_broken : Nat → Int32} {mX8_places : Nat → Option Nat} {mX8_text : Nat → Option Nat} {mX8_size : Nat → Int32} {mX9_kind : Nat → Int32} {mX9_a : Nat → Int32} {mX9_b : Nat → Int32} {mX9_c : Nat → Int32} {mX26_rule : Nat → Int32} {mX26_instance : Nat → Int32} {mX26_premises : Nat → Option Nat} {mX26_count : Nat → Int32} {mX26_states : Nat → Option Nat} {mX26_right : Nat → Int32} {mX26_size : Nat → Int32} {mX10_takes : Nat → Int32} {mX10_name : Nat → Option Nat} {mX12_any : Nat → Int32} {mX14_kind : Nat → Int32} {mX16_kind : Nat → Int32} {mX18_first : Nat → Int32} {mX19_either : Nat → Int32} {a : Nat} {v : Option Nat} (hk : kd a = 10) : va_up (cPC ci d kd an ai al ar mX8_rules mX8_axioms mX8_axiomCount mX8_givens mX8_givenCount mX8_wanted mX8_rows mX8_rowCount mX8_looked mX8_from mX8_needed mX8_broken mX8_places mX8_text mX8_size mX9_kind mX9_a mX9_b mX9_c mX26_rule mX26_instance mX26_premises mX26_count mX26_states mX26_right mX26_size mX10_takes mX10_name mX12_any mX14_kind mX16_kind mX18_first mX19_either) a (.inr (ci 9, [.int (mX16_kind a), .int (mX10_takes a), va_rf v, .int (mX18_first a)])) = (cPC ci d kd an ai al ar mX8_rules mX8_axioms mX8_axiomCount mX8_givens mX8_givenCount mX8_wanted mX8_rows mX8_rowCount mX8_looked mX8_from mX8_needed mX8_broken mX8_places mX8_text mX8_size mX9_kind mX9_a mX9_b mX9_c mX26_rule mX26_instance mX26_premises mX26_count mX26_states mX26_right mX26_size mX10_takes (va_up mX10_name a v) mX12_any mX14_kind mX16_kind mX18_first mX19_either) := by
  funext b
  by_cases h : b = a
  · subst h
    rw [va_up_self]
    unfold cPC
    rw [hk]
    simp only [va_up_self]
  · rw [va_up_ne _ _ h]
    unfold cPC
    simp only [va_up_ne _ _ h]
theorem cPC_10_3 {ci : Nat → Nat} {d : Nat → ClassId} {kd : Nat → Nat} {an : Nat → Nat} {ai : Nat → Nat → Int32} {al : Nat → Nat → Int64} {ar : Nat → Nat → Option Nat} {mX8_rules : Nat → Option Nat} {mX8_axioms : Nat → Option Nat} {mX8_axiomCount : Nat → Int32} {mX8_givens : Nat → Option Nat} {mX8_givenCount : Nat → Int32} {mX8_wanted : Nat → Option Nat} {mX8_rows : Nat → Option Nat} {mX8_rowCount : Nat → Int32} {mX8_looked : Nat → Int32} {mX8_from : Nat → Option Nat} {mX8_needed : Nat → Option Nat} {mX8_broken : Nat → Int32} {mX8_places : Nat → Option Nat} {mX8_text : Nat → Option Nat} {mX8_size : Nat → Int32} {mX9_kind : Nat → Int32} {mX9_a : Nat → Int32} {mX9_b : Nat → Int32} {mX9_c : Nat → Int32} {mX26_rule : Nat → Int32} {mX26_instance : Nat → Int32} {mX26_premises : Nat → Option Nat} {mX26_count : Nat → Int32} {mX26_states : Nat → Option Nat} {mX26_right : Nat → Int32} {mX26_size : Nat → Int32} {mX10_takes : Nat → Int32} {mX10_name : Nat → Option Nat} {mX12_any : Nat → Int32} {mX14_kind : Nat → Int32} {mX16_kind : Nat → Int32} {mX18_first : Nat → Int32} {mX19_either : Nat → Int32} {a : Nat} {v : Int32} (hk : kd a = 10) : va_up (cPC ci d kd an ai al ar mX8_rules mX8_axioms mX8_axiomCount mX8_givens mX8_givenCount mX8_wanted mX8_rows mX8_rowCount mX8_looked mX8_from mX8_needed mX8_broken mX8_places mX8_text mX8_size mX9_kind mX9_a mX9_b mX9_c mX26_rule mX26_instance mX26_premises mX26_count mX26_states mX26_right mX26_size mX10_takes mX10_name mX12_any mX14_kind mX16_kind mX18_first mX19_either) a (.inr (ci 9, [.int (mX16_kind a), .int (mX10_takes a), va_rf (mX10_name a), .int v])) = (cPC ci d kd an ai al ar mX8_rules mX8_axioms mX8_axiomCount mX8_givens mX8_givenCount mX8_wanted mX8_rows mX8_rowCount mX8_looked mX8_from mX8_needed mX8_broken mX8_places mX8_text mX8_size mX9_kind mX9_a mX9_b mX9_c mX26_rule mX26_instance mX26_premises mX26_count mX26_states mX26_right mX26_size mX10_takes mX10_name mX12_any mX14_kind mX16_kind (va_up mX18_first a v) mX19_either) := by
  funext b
  by_cases h : b = a
  · subst h
    rw [va_up_self]
    unfold cPC
    rw [hk]
    simp only [va_up_self]
  · rw [va_up_ne _ _ h]
    unfold cPC
    simp only [va_up_ne _ _ h]
theorem cPC_10_n {ci : Nat → Nat} {d : Nat → ClassId} {kd : Nat → Nat} {an : Nat → Nat} {ai : Nat → Nat → Int32} {al : Nat → Nat → Int64} {ar : Nat → Nat → Option Nat} {mX8_rules : Nat → Option Nat} {mX8_axioms : Nat → Option Nat} {mX8_axiomCount : Nat → Int32} {mX8_givens : Nat → Option Nat} {mX8_givenCount : Nat → Int32} {mX8_wanted : Nat → Option Nat} {mX8_rows : Nat → Option Nat} {mX8_rowCount : Nat → Int32} {mX8_looked : Nat → Int32} {mX8_from : Nat → Option Nat} {mX8_needed : Nat → Option Nat} {mX8_broken : Nat → Int32} {mX8_places : Nat → Option Nat} {mX8_text : Nat → Option Nat} {mX8_size : Nat → Int32} {mX9_kind : Nat → Int32} {mX9_a : Nat → Int32} {mX9_b : Nat → Int32} {mX9_c : Nat → Int32} {mX26_rule : Nat → Int32} {mX26_instance : Nat → Int32} {mX26_premises : Nat → Option Nat} {mX26_count : Nat → Int32} {mX26_states : Nat → Option Nat} {mX26_right : Nat → Int32} {mX26_size : Nat → Int32} {mX10_takes : Nat → Int32} {mX10_name : Nat → Option Nat} {mX12_any : Nat → Int32} {mX14_kind : Nat → Int32} {mX16_kind : Nat → Int32} {mX18_first : Nat → Int32} {mX19_either : Nat → Int32} (q : Nat) : va_up (cPC ci d kd an ai al ar mX8_rules mX8_axioms mX8_axiomCount mX8_givens mX8_givenCount mX8_wanted mX8_rows mX8_rowCount mX8_looked mX8_from mX8_needed mX8_broken mX8_places mX8_text mX8_size mX9_kind mX9_a mX9_b mX9_c mX26_rule mX26_instance mX26_premises mX26_count mX26_states mX26_right mX26_size mX10_takes mX10_name mX12_any mX14_kind mX16_kind mX18_first mX19_either) q (.inr (ci 9, [.int 0, .int 0, va_rf none, .int 0])) = (cPC ci d (va_up kd q 10) an ai al ar mX8_rules mX8_axioms mX8_axiomCount mX8_givens mX8_givenCount mX8_wanted mX8_rows mX8_rowCount mX8_looked mX8_from mX8_needed mX8_broken mX8_places mX8_text mX8_size mX9_kind mX9_a mX9_b mX9_c mX26_rule mX26_instance mX26_premises mX26_count mX26_states mX26_right mX26_size (va_up mX10_takes q 0) (va_up mX10_name q none) mX12_any mX14_kind (va_up mX16_kind q 0) (va_up mX18_first q 0) mX19_either) := by
  funext b
  by_cases h : b = q
  · subst h
    rw [va_up_self]
    unfold cPC
    simp only [va_up_self]
  · rw [va_up_ne _ _ h]
    unfold cPC
    simp only [va_up_ne _ _ h]
theorem cPC_11 {ci : Nat → Nat} {d : Nat → ClassId} {kd : Nat → Nat} {an : Nat → Nat} {ai : Nat → Nat → Int32} {al : Nat → Nat → Int64} {ar : Nat → Nat → Option Nat} {mX8_rules : Nat → Option Nat} {mX8_axioms : Nat → Option Nat} {mX8_axiomCount : Nat → Int32} {mX8_givens : Nat → Option Nat} {mX8_givenCount : Nat → Int32} {mX8_wanted : Nat → Option Nat} {mX8_rows : Nat → Option Nat} {mX8_rowCount : Nat → Int32} {mX8_looked : Nat → Int32} {mX8_from : Nat → Option Nat} {mX8_needed : Nat → Option Nat} {mX8_broken : Nat → Int32} {mX8_places : Nat → Option Nat} {mX8_text : Nat → Option Nat} {mX8_size : Nat → Int32} {mX9_kind : Nat → Int32} {mX9_a : Nat → Int32} {mX9_b : Nat → Int32} {mX9_c : Nat → Int32} {mX26_rule : Nat → Int32} {mX26_instance : Nat → Int32} {mX26_premises : Nat → Option Nat} {mX26_count : Nat → Int32} {mX26_states : Nat → Option Nat} {mX26_right : Nat → Int32} {mX26_size : Nat → Int32} {mX10_takes : Nat → Int32} {mX10_name : Nat → Option Nat} {mX12_any : Nat → Int32} {mX14_kind : Nat → Int32} {mX16_kind : Nat → Int32} {mX18_first : Nat → Int32} {mX19_either : Nat → Int32} {a : Nat} (hk : kd a = 11) : (cPC ci d kd an ai al ar mX8_rules mX8_axioms mX8_axiomCount mX8_givens mX8_givenCount mX8_wanted mX8_rows mX8_rowCount mX8_looked mX8_from mX8_needed mX8_broken mX8_places mX8_text mX8_size mX9_kind mX9_a mX9_b mX9_c mX26_rule mX26_instance mX26_premises mX26_count mX26_states mX26_right mX26_size mX10_takes mX10_name mX12_any mX14_kind mX16_kind mX18_first mX19_either) a = .inr (ci 10, [.int (mX16_kind a), .int (mX10_takes a), va_rf (mX10_name a), .int (mX19_either a)]) := by unfold cPC; simp only [hk]
theorem cPC_11_0 {ci : Nat → Nat} {d : Nat → ClassId} {kd : Nat → Nat} {an : Nat → Nat} {ai : Nat → Nat → Int32} {al : Nat → Nat → Int64} {ar : Nat → Nat → Option Nat} {mX8_rules : Nat → Option Nat} {mX8_axioms : Nat → Option Nat} {mX8_axiomCount : Nat → Int32} {mX8_givens : Nat → Option Nat} {mX8_givenCount : Nat → Int32} {mX8_wanted : Nat → Option Nat} {mX8_rows : Nat → Option Nat} {mX8_rowCount : Nat → Int32} {mX8_looked : Nat → Int32} {mX8_from : Nat → Option Nat} {mX8_needed : Nat → Option Nat} {mX8_broken : Nat → Int32} {mX8_places : Nat → Option Nat} {mX8_text : Nat → Option Nat} {mX8_size : Nat → Int32} {mX9_kind : Nat → Int32} {mX9_a : Nat → Int32} {mX9_b : Nat → Int32} {mX9_c : Nat → Int32} {mX26_rule : Nat → Int32} {mX26_instance : Nat → Int32} {mX26_premises : Nat → Option Nat} {mX26_count : Nat → Int32} {mX26_states : Nat → Option Nat} {mX26_right : Nat → Int32} {mX26_size : Nat → Int32} {mX10_takes : Nat → Int32} {mX10_name : Nat → Option Nat} {mX12_any : Nat → Int32} {mX14_kind : Nat → Int32} {mX16_kind : Nat → Int32} {mX18_first : Nat → Int32} {mX19_either : Nat → Int32} {a : Nat} {v : Int32} (hk : kd a = 11) : va_up (cPC ci d kd an ai al ar mX8_rules mX8_axioms mX8_axiomCount mX8_givens mX8_givenCount mX8_wanted mX8_rows mX8_rowCount mX8_looked mX8_from mX8_needed mX8_broken mX8_places mX8_text mX8_size mX9_kind mX9_a mX9_b mX9_c mX26_rule mX26_instance mX26_premises mX26_count mX26_states mX26_right mX26_size mX10_takes mX10_name mX12_any mX14_kind mX16_kind mX18_first mX19_either) a (.inr (ci 10, [.int v, .int (mX10_takes a), va_rf (mX10_name a), .int (mX19_either a)])) = (cPC ci d kd an ai al ar mX8_rules mX8_axioms mX8_axiomCount mX8_givens mX8_givenCount mX8_wanted mX8_rows mX8_rowCount mX8_looked mX8_from mX8_needed mX8_broken mX8_places mX8_text mX8_size mX9_kind mX9_a mX9_b mX9_c mX26_rule mX26_instance mX26_premises mX26_count mX26_states mX26_right mX26_size mX10_takes mX10_name mX12_any mX14_kind (va_up mX16_kind a v) mX18_first mX19_either) := by
  funext b
  by_cases h : b = a
  · subst h
    rw [va_up_self]
    unfold cPC
    rw [hk]
    simp only [va_up_self]
  · rw [va_up_ne _ _ h]
    unfold cPC
    simp only [va_up_ne _ _ h]
theorem cPC_11_1 {ci : Nat → Nat} {d : Nat → ClassId} {kd : Nat → Nat} {an : Nat → Nat} {ai : Nat → Nat → Int32} {al : Nat → Nat → Int64} {ar : Nat → Nat → Option Nat} {mX8_rules : Nat → Option Nat} {mX8_axioms : Nat → Option Nat} {mX8_axiomCount : Nat → Int32} {mX8_givens : Nat → Option Nat} {mX8_givenCount : Nat → Int32} {mX8_wanted : Nat → Option Nat} {mX8_rows : Nat → Option Nat} {mX8_rowCount : Nat → Int32} {mX8_looked : Nat → Int32} {mX8_from : Nat → Option Nat} {mX8_needed : Nat → Option Nat} {mX8_broken : Nat → Int32} {mX8_places : Nat → Option Nat} {mX8_text : Nat → Option Nat} {mX8_size : Nat → Int32} {mX9_kind : Nat → Int32} {mX9_a : Nat → Int32} {mX9_b : Nat → Int32} {mX9_c : Nat → Int32} {mX26_rule : Nat → Int32} {mX26_instance : Nat → Int32} {mX26_premises : Nat → Option Nat} {mX26_count : Nat → Int32} {mX26_states : Nat → Option Nat} {mX26_right : Nat → Int32} {mX26_size : Nat → Int32} {mX10_takes : Nat → Int32} {mX10_name : Nat → Option Nat} {mX12_any : Nat → Int32} {mX14_kind : Nat → Int32} {mX16_kind : Nat → Int32} {mX18_first : Nat → Int32} {mX19_either : Nat → Int32} {a : Nat} {v : Int32} (hk : kd a = 11) : va_up (cPC ci d kd an ai al ar mX8_rules mX8_axioms mX8_axiomCount mX8_givens mX8_givenCount mX8_wanted mX8_rows mX8_rowCount mX8_looked mX8_from mX8_needed mX8_broken mX8_places mX8_text mX8_size mX9_kind mX9_a mX9_b mX9_c mX26_rule mX26_instance mX26_premises mX26_count mX26_states mX26_right mX26_size mX10_takes mX10_name mX12_any mX14_kind mX16_kind mX18_first mX19_either) a (.inr (ci 10, [.int (mX16_kind a), .int v, va_rf (mX10_name a), .int (mX19_either a)])) = (cPC ci d kd an ai al ar mX8_rules mX8_axioms mX8_axiomCount mX8_givens mX8_givenCount mX8_wanted mX8_rows mX8_rowCount mX8_looked mX8_from mX8_needed mX8_broken mX8_places mX8_text mX8_size mX9_kind mX9_a mX9_b mX9_c mX26_rule mX26_instance mX26_premises mX26_count mX26_states mX26_right mX26_size (va_up mX10_takes a v) mX10_name mX12_any mX14_kind mX16_kind mX18_first mX19_either) := by
  funext b
  by_cases h : b = a
  · subst h
    rw [va_up_self]
    unfold cPC
    rw [hk]
    simp only [va_up_self]
  · rw [va_up_ne _ _ h]
    unfold cPC
    simp only [va_up_ne _ _ h]
theorem cPC_11_2 {ci : Nat → Nat} {d : Nat → ClassId} {kd : Nat → Nat} {an : Nat → Nat} {ai : Nat → Nat → Int32} {al : Nat → Nat → Int64} {ar : Nat → Nat → Option Nat} {mX8_rules : Nat → Option Nat} {mX8_axioms : Nat → Option Nat} {mX8_axiomCount : Nat → Int32} {mX8_givens : Nat → Option Nat} {mX8_givenCount : Nat → Int32} {mX8_wanted : Nat → Option Nat} {mX8_rows : Nat → Option Nat} {mX8_rowCount : Nat → Int32} {mX8_looked : Nat → Int32} {mX8_from : Nat → Option Nat} {mX8_needed : Nat → Option Nat} {mX8_broken : Nat → Int32} {mX8_places : Nat → Option Nat} {mX8_text : Nat → Option Nat} {mX8_size : Nat → Int32} {mX9_kind : Nat → Int32} {mX9_a : Nat → Int32} {mX9_b : Nat → Int32} {mX9_c : Nat → Int32} {mX26_rule : Nat → Int32} {mX26_instance : Nat → Int32} {mX26_premises : Nat → Option Nat} {mX26_count : Nat → Int32} {mX26_states : Nat → Option Nat} {mX26_right : Nat → Int32} {mX26_size : Nat → Int32} {mX10_takes : Nat → Int32} {mX10_name : Nat → Option Nat} {mX12_any : Nat → Int32} {mX14_kind : Nat → Int32} {mX16_kind : Nat → Int32} {mX18_first : Nat → Int32} {mX19_either : Nat → Int32} {a : Nat} {v : Option Nat} (hk : kd a = 11) : va_up (cPC ci d kd an ai al ar mX8_rules mX8_axioms mX8_axiomCount mX8_givens mX8_givenCount mX8_wanted mX8_rows mX8_rowCount mX8_looked mX8_from mX8_needed mX8_broken mX8_places mX8_text mX8_size mX9_kind mX9_a mX9_b mX9_c mX26_rule mX26_instance mX26_premises mX26_count mX26_states mX26_right mX26_size mX10_takes mX10_name mX12_any mX14_kind mX16_kind mX18_first mX19_either) a (.inr (ci 10, [.int (mX16_kind a), .int (mX10_takes a), va_rf v, .int (mX19_either a)])) = (cPC ci d kd an ai al ar mX8_rules mX8_axioms mX8_axiomCount mX8_givens mX8_givenCount mX8_wanted mX8_rows mX8_rowCount mX8_looked mX8_from mX8_needed mX8_broken mX8_places mX8_text mX8_size mX9_kind mX9_a mX9_b mX9_c mX26_rule mX26_instance mX26_premises mX26_count mX26_states mX26_right mX26_size mX10_takes (va_up mX10_name a v) mX12_any mX14_kind mX16_kind mX18_first mX19_either) := by
  funext b
  by_cases h : b = a
  · subst h
    rw [va_up_self]
    unfold cPC
    rw [hk]
    simp only [va_up_self]
  · rw [va_up_ne _ _ h]
    unfold cPC
    simp only [va_up_ne _ _ h]
theorem cPC_11_3 {ci : Nat → Nat} {d : Nat → ClassId} {kd : Nat → Nat} {an : Nat → Nat} {ai : Nat → Nat → Int32} {al : Nat → Nat → Int64} {ar : Nat → Nat → Option Nat} {mX8_rules : Nat → Option Nat} {mX8_axioms : Nat → Option Nat} {mX8_axiomCount : Nat → Int32} {mX8_givens : Nat → Option Nat} {mX8_givenCount : Nat → Int32} {mX8_wanted : Nat → Option Nat} {mX8_rows : Nat → Option Nat} {mX8_rowCount : Nat → Int32} {mX8_looked : Nat → Int32} {mX8_from : Nat → Option Nat} {mX8_needed : Nat → Option Nat} {mX8_broken : Nat → Int32} {mX8_places : Nat → Option Nat} {mX8_text : Nat → Option Nat} {mX8_size : Nat → Int32} {mX9_kind : Nat → Int32} {mX9_a : Nat → Int32} {mX9_b : Nat → Int32} {mX9_c : Nat → Int32} {mX26_rule : Nat → Int32} {mX26_instance : Nat → Int32} {mX26_premises : Nat → Option Nat} {mX26_count : Nat → Int32} {mX26_states : Nat → Option Nat} {mX26_right : Nat → Int32} {mX26_size : Nat → Int32} {mX10_takes : Nat → Int32} {mX10_name : Nat → Option Nat} {mX12_any : Nat → Int32} {mX14_kind : Nat → Int32} {mX16_kind : Nat → Int32} {mX18_first : Nat → Int32} {mX19_either : Nat → Int32} {a : Nat} {v : Int32} (hk : kd a = 11) : va_up (cPC ci d kd an ai al ar mX8_rules mX8_axioms mX8_axiomCount mX8_givens mX8_givenCount mX8_wanted mX8_rows mX8_rowCount mX8_looked mX8_from mX8_needed mX8_broken mX8_places mX8_text mX8_size mX9_kind mX9_a mX9_b mX9_c mX26_rule mX26_instance mX26_premises mX26_count mX26_states mX26_right mX26_size mX10_takes mX10_name mX12_any mX14_kind mX16_kind mX18_first mX19_either) a (.inr (ci 10, [.int (mX16_kind a), .int (mX10_takes a), va_rf (mX10_name a), .int v])) = (cPC ci d kd an ai al ar mX8_rules mX8_axioms mX8_axiomCount mX8_givens mX8_givenCount mX8_wanted mX8_rows mX8_rowCount mX8_looked mX8_from mX8_needed mX8_broken mX8_places mX8_text mX8_size mX9_kind mX9_a mX9_b mX9_c mX26_rule mX26_instance mX26_premises mX26_count mX26_states mX26_right mX26_size mX10_takes mX10_name mX12_any mX14_kind mX16_kind mX18_first (va_up mX19_either a v)) := by
  funext b
  by_cases h : b = a
  · subst h
    rw [va_up_self]
    unfold cPC
    rw [hk]
    simp only [va_up_self]
  · rw [va_up_ne _ _ h]
    unfold cPC
    simp only [va_up_ne _ _ h]
theorem cPC_11_n {ci : Nat → Nat} {d : Nat → ClassId} {kd : Nat → Nat} {an : Nat → Nat} {ai : Nat → Nat → Int32} {al : Nat → Nat → Int64} {ar : Nat → Nat → Option Nat} {mX8_rules : Nat → Option Nat} {mX8_axioms : Nat → Option Nat} {mX8_axiomCount : Nat → Int32} {mX8_givens : Nat → Option Nat} {mX8_givenCount : Nat → Int32} {mX8_wanted : Nat → Option Nat} {mX8_rows : Nat → Option Nat} {mX8_rowCount : Nat → Int32} {mX8_looked : Nat → Int32} {mX8_from : Nat → Option Nat} {mX8_needed : Nat → Option Nat} {mX8_broken : Nat → Int32} {mX8_places : Nat → Option Nat} {mX8_text : Nat → Option Nat} {mX8_size : Nat → Int32} {mX9_kind : Nat → Int32} {mX9_a : Nat → Int32} {mX9_b : Nat → Int32} {mX9_c : Nat → Int32} {mX26_rule : Nat → Int32} {mX26_instance : Nat → Int32} {mX26_premises : Nat → Option Nat} {mX26_count : Nat → Int32} {mX26_states : Nat → Option Nat} {mX26_right : Nat → Int32} {mX26_size : Nat → Int32} {mX10_takes : Nat → Int32} {mX10_name : Nat → Option Nat} {mX12_any : Nat → Int32} {mX14_kind : Nat → Int32} {mX16_kind : Nat → Int32} {mX18_first : Nat → Int32} {mX19_either : Nat → Int32} (q : Nat) : va_up (cPC ci d kd an ai al ar mX8_rules mX8_axioms mX8_axiomCount mX8_givens mX8_givenCount mX8_wanted mX8_rows mX8_rowCount mX8_looked mX8_from mX8_needed mX8_broken mX8_places mX8_text mX8_size mX9_kind mX9_a mX9_b mX9_c mX26_rule mX26_instance mX26_premises mX26_count mX26_states mX26_right mX26_size mX10_takes mX10_name mX12_any mX14_kind mX16_kind mX18_first mX19_either) q (.inr (ci 10, [.int 0, .int 0, va_rf none, .int 0])) = (cPC ci d (va_up kd q 11) an ai al ar mX8_rules mX8_axioms mX8_axiomCount mX8_givens mX8_givenCount mX8_wanted mX8_rows mX8_rowCount mX8_looked mX8_from mX8_needed mX8_broken mX8_places mX8_text mX8_size mX9_kind mX9_a mX9_b mX9_c mX26_rule mX26_instance mX26_premises mX26_count mX26_states mX26_right mX26_size (va_up mX10_takes q 0) (va_up mX10_name q none) mX12_any mX14_kind (va_up mX16_kind q 0) mX18_first (va_up mX19_either q 0)) := by
  funext b
  by_cases h : b = q
  · subst h
    rw [va_up_self]
    unfold cPC
    simp only [va_up_self]
  · rw [va_up_ne _ _ h]
    unfold cPC
    simp only [va_up_ne _ _ h]
theorem cPC_12 {ci : Nat → Nat} {d : Nat → ClassId} {kd : Nat → Nat} {an : Nat → Nat} {ai : Nat → Nat → Int32} {al : Nat → Nat → Int64} {ar : Nat → Nat → Option Nat} {mX8_rules : Nat → Option Nat} {mX8_axioms : Nat → Option Nat} {mX8_axiomCount : Nat → Int32} {mX8_givens : Nat → Option Nat} {mX8_givenCount : Nat → Int32} {mX8_wanted : Nat → Option Nat} {mX8_rows : Nat → Option Nat} {mX8_rowCount : Nat → Int32} {mX8_looked : Nat → Int32} {mX8_from : Nat → Option Nat} {mX8_needed : Nat → Option Nat} {mX8_broken : Nat → Int32} {mX8_places : Nat → Option Nat} {mX8_text : Nat → Option Nat} {mX8_size : Nat → Int32} {mX9_kind : Nat → Int32} {mX9_a : Nat → Int32} {mX9_b : Nat → Int32} {mX9_c : Nat → Int32} {mX26_rule : Nat → Int32} {mX26_instance : Nat → Int32} {mX26_premises : Nat → Option Nat} {mX26_count : Nat → Int32} {mX26_states : Nat → Option Nat} {mX26_right : Nat → Int32} {mX26_size : Nat → Int32} {mX10_takes : Nat → Int32} {mX10_name : Nat → Option Nat} {mX12_any : Nat → Int32} {mX14_kind : Nat → Int32} {mX16_kind : Nat → Int32} {mX18_first : Nat → Int32} {mX19_either : Nat → Int32} {a : Nat} (hk : kd a = 12) : (cPC ci d kd an ai al ar mX8_rules mX8_axioms mX8_axiomCount mX8_givens mX8_givenCount mX8_wanted mX8_rows mX8_rowCount mX8_looked mX8_from mX8_needed mX8_broken mX8_places mX8_text mX8_size mX9_kind mX9_a mX9_b mX9_c mX26_rule mX26_instance mX26_premises mX26_count mX26_states mX26_right mX26_size mX10_takes mX10_name mX12_any mX14_kind mX16_kind mX18_first mX19_either) a = .inr (ci 11, [.int (mX16_kind a), .int (mX10_takes a), va_rf (mX10_name a)]) := by unfold cPC; simp only [hk]
theorem cPC_12_0 {ci : Nat → Nat} {d : Nat → ClassId} {kd : Nat → Nat} {an : Nat → Nat} {ai : Nat → Nat → Int32} {al : Nat → Nat → Int64} {ar : Nat → Nat → Option Nat} {mX8_rules : Nat → Option Nat} {mX8_axioms : Nat → Option Nat} {mX8_axiomCount : Nat → Int32} {mX8_givens : Nat → Option Nat} {mX8_givenCount : Nat → Int32} {mX8_wanted : Nat → Option Nat} {mX8_rows : Nat → Option Nat} {mX8_rowCount : Nat → Int32} {mX8_looked : Nat → Int32} {mX8_from : Nat → Option Nat} {mX8_needed : Nat → Option Nat} {mX8_broken : Nat → Int32} {mX8_places : Nat → Option Nat} {mX8_text : Nat → Option Nat} {mX8_size : Nat → Int32} {mX9_kind : Nat → Int32} {mX9_a : Nat → Int32} {mX9_b : Nat → Int32} {mX9_c : Nat → Int32} {mX26_rule : Nat → Int32} {mX26_instance : Nat → Int32} {mX26_premises : Nat → Option Nat} {mX26_count : Nat → Int32} {mX26_states : Nat → Option Nat} {mX26_right : Nat → Int32} {mX26_size : Nat → Int32} {mX10_takes : Nat → Int32} {mX10_name : Nat → Option Nat} {mX12_any : Nat → Int32} {mX14_kind : Nat → Int32} {mX16_kind : Nat → Int32} {mX18_first : Nat → Int32} {mX19_either : Nat → Int32} {a : Nat} {v : Int32} (hk : kd a = 12) : va_up (cPC ci d kd an ai al ar mX8_rules mX8_axioms mX8_axiomCount mX8_givens mX8_givenCount mX8_wanted mX8_rows mX8_rowCount mX8_looked mX8_from mX8_needed mX8_broken mX8_places mX8_text mX8_size mX9_kind mX9_a mX9_b mX9_c mX26_rule mX26_instance mX26_premises mX26_count mX26_states mX26_right mX26_size mX10_takes mX10_name mX12_any mX14_kind mX16_kind mX18_first mX19_either) a (.inr (ci 11, [.int v, .int (mX10_takes a), va_rf (mX10_name a)])) = (cPC ci d kd an ai al ar mX8_rules mX8_axioms mX8_axiomCount mX8_givens mX8_givenCount mX8_wanted mX8_rows mX8_rowCount mX8_looked mX8_from mX8_needed mX8_broken mX8_places mX8_text mX8_size mX9_kind mX9_a mX9_b mX9_c mX26_rule mX26_instance mX26_premises mX26_count mX26_states mX26_right mX26_size mX10_takes mX10_name mX12_any mX14_kind (va_up mX16_kind a v) mX18_first mX19_either) := by
  funext b
  by_cases h : b = a
  · subst h
    rw [va_up_self]
    unfold cPC
    rw [hk]
    simp only [va_up_self]
  · rw [va_up_ne _ _ h]
    unfold cPC
    simp only [va_up_ne _ _ h]
theorem cPC_12_1 {ci : Nat → Nat} {d : Nat → ClassId} {kd : Nat → Nat} {an : Nat → Nat} {ai : Nat → Nat → Int32} {al : Nat → Nat → Int64} {ar : Nat → Nat → Option Nat} {mX8_rules : Nat → Option Nat} {mX8_axioms : Nat → Option Nat} {mX8_axiomCount : Nat → Int32} {mX8_givens : Nat → Option Nat} {mX8_givenCount : Nat → Int32} {mX8_wanted : Nat → Option Nat} {mX8_rows : Nat → Option Nat} {mX8_rowCount : Nat → Int32} {mX8_looked : Nat → Int32} {mX8_from : Nat → Option Nat} {mX8_needed : Nat → Option Nat} {mX8_broken : Nat → Int32} {mX8_places : Nat → Option Nat} {mX8_text : Nat → Option Nat} {mX8_size : Nat → Int32} {mX9_kind : Nat → Int32} {mX9_a : Nat → Int32} {mX9_b : Nat → Int32} {mX9_c : Nat → Int32} {mX26_rule : Nat → Int32} {mX26_instance : Nat → Int32} {mX26_premises : Nat → Option Nat} {mX26_count : Nat → Int32} {mX26_states : Nat → Option Nat} {mX26_right : Nat → Int32} {mX26_size : Nat → Int32} {mX10_takes : Nat → Int32} {mX10_name : Nat → Option Nat} {mX12_any : Nat → Int32} {mX14_kind : Nat → Int32} {mX16_kind : Nat → Int32} {mX18_first : Nat → Int32} {mX19_either : Nat → Int32} {a : Nat} {v : Int32} (hk : kd a = 12) : va_up (cPC ci d kd an ai al ar mX8_rules mX8_axioms mX8_axiomCount mX8_givens mX8_givenCount mX8_wanted mX8_rows mX8_rowCount mX8_looked mX8_from mX8_needed mX8_broken mX8_places mX8_text mX8_size mX9_kind mX9_a mX9_b mX9_c mX26_rule mX26_instance mX26_premises mX26_count mX26_states mX26_right mX26_size mX10_takes mX10_name mX12_any mX14_kind mX16_kind mX18_first mX19_either) a (.inr (ci 11, [.int (mX16_kind a), .int v, va_rf (mX10_name a)])) = (cPC ci d kd an ai al ar mX8_rules mX8_axioms mX8_axiomCount mX8_givens mX8_givenCount mX8_wanted mX8_rows mX8_rowCount mX8_looked mX8_from mX8_needed mX8_broken mX8_places mX8_text mX8_size mX9_kind mX9_a mX9_b mX9_c mX26_rule mX26_instance mX26_premises mX26_count mX26_states mX26_right mX26_size (va_up mX10_takes a v) mX10_name mX12_any mX14_kind mX16_kind mX18_first mX19_either) := by
  funext b
  by_cases h : b = a
  · subst h
    rw [va_up_self]
    unfold cPC
    rw [hk]
    simp only [va_up_self]
  · rw [va_up_ne _ _ h]
    unfold cPC
    simp only [va_up_ne _ _ h]
theorem cPC_12_2 {ci : Nat → Nat} {d : Nat → ClassId} {kd : Nat → Nat} {an : Nat → Nat} {ai : Nat → Nat → Int32} {al : Nat → Nat → Int64} {ar : Nat → Nat → Option Nat} {mX8_rules : Nat → Option Nat} {mX8_axioms : Nat → Option Nat} {mX8_axiomCount : Nat → Int32} {mX8_givens : Nat → Option Nat} {mX8_givenCount : Nat → Int32} {mX8_wanted : Nat → Option Nat} {mX8_rows : Nat → Option Nat} {mX8_rowCount : Nat → Int32} {mX8_looked : Nat → Int32} {mX8_from : Nat → Option Nat} {mX8_needed : Nat → Option Nat} {mX8_broken : Nat → Int32} {mX8_places : Nat → Option Nat} {mX8_text : Nat → Option Nat} {mX8_size : Nat → Int32} {mX9_kind : Nat → Int32} {mX9_a : Nat → Int32} {mX9_b : Nat → Int32} {mX9_c : Nat → Int32} {mX26_rule : Nat → Int32} {mX26_instance : Nat → Int32} {mX26_premises : Nat → Option Nat} {mX26_count : Nat → Int32} {mX26_states : Nat → Option Nat} {mX26_right : Nat → Int32} {mX26_size : Nat → Int32} {mX10_takes : Nat → Int32} {mX10_name : Nat → Option Nat} {mX12_any : Nat → Int32} {mX14_kind : Nat → Int32} {mX16_kind : Nat → Int32} {mX18_first : Nat → Int32} {mX19_either : Nat → Int32} {a : Nat} {v : Option Nat} (hk : kd a = 12) : va_up (cPC ci d kd an ai al ar mX8_rules mX8_axioms mX8_axiomCount mX8_givens mX8_givenCount mX8_wanted mX8_rows mX8_rowCount mX8_looked mX8_from mX8_needed mX8_broken mX8_places mX8_text mX8_size mX9_kind mX9_a mX9_b mX9_c mX26_rule mX26_instance mX26_premises mX26_count mX26_states mX26_right mX26_size mX10_takes mX10_name mX12_any mX14_kind mX16_kind mX18_first mX19_either) a (.inr (ci 11, [.int (mX16_kind a), .int (mX10_takes a), va_rf v])) = (cPC ci d kd an ai al ar mX8_rules mX8_axioms mX8_axiomCount mX8_givens mX8_givenCount mX8_wanted mX8_rows mX8_rowCount mX8_looked mX8_from mX8_needed mX8_broken mX8_places mX8_text mX8_size mX9_kind mX9_a mX9_b mX9_c mX26_rule mX26_instance mX26_premises mX26_count mX26_states mX26_right mX26_size mX10_takes (va_up mX10_name a v) mX12_any mX14_kind mX16_kind mX18_first mX19_either) := by
  funext b
  by_cases h : b = a
  · subst h
    rw [va_up_self]
    unfold cPC
    rw [hk]
    simp only [va_up_self]
  · rw [va_up_ne _ _ h]
    unfold cPC
    simp only [va_up_ne _ _ h]
theorem cPC_12_n {ci : Nat → Nat} {d : Nat → ClassId} {kd : Nat → Nat} {an : Nat → Nat} {ai : Nat → Nat → Int32} {al : Nat → Nat → Int64} {ar : Nat → Nat → Option Nat} {mX8_rules : Nat → Option Nat} {mX8_axioms : Nat → Option Nat} {mX8_axiomCount : Nat → Int32} {mX8_givens : Nat → Option Nat} {mX8_givenCount : Nat → Int32} {mX8_wanted : Nat → Option Nat} {mX8_rows : Nat → Option Nat} {mX8_rowCount : Nat → Int32} {mX8_looked : Nat → Int32} {mX8_from : Nat → Option Nat} {mX8_needed : Nat → Option Nat} {mX8_broken : Nat → Int32} {mX8_places : Nat → Option Nat} {mX8_text : Nat → Option Nat} {mX8_size : Nat → Int32} {mX9_kind : Nat → Int32} {mX9_a : Nat → Int32} {mX9_b : Nat → Int32} {mX9_c : Nat → Int32} {mX26_rule : Nat → Int32} {mX26_instance : Nat → Int32} {mX26_premises : Nat → Option Nat} {mX26_count : Nat → Int32} {mX26_states : Nat → Option Nat} {mX26_right : Nat → Int32} {mX26_size : Nat → Int32} {mX10_takes : Nat → Int32} {mX10_name : Nat → Option Nat} {mX12_any : Nat → Int32} {mX14_kind : Nat → Int32} {mX16_kind : Nat → Int32} {mX18_first : Nat → Int32} {mX19_either : Nat → Int32} (q : Nat) : va_up (cPC ci d kd an ai al ar mX8_rules mX8_axioms mX8_axiomCount mX8_givens mX8_givenCount mX8_wanted mX8_rows mX8_rowCount mX8_looked mX8_from mX8_needed mX8_broken mX8_places mX8_text mX8_size mX9_kind mX9_a mX9_b mX9_c mX26_rule mX26_instance mX26_premises mX26_count mX26_states mX26_right mX26_size mX10_takes mX10_name mX12_any mX14_kind mX16_kind mX18_first mX19_either) q (.inr (ci 11, [.int 0, .int 0, va_rf none])) = (cPC ci d (va_up kd q 12) an ai al ar mX8_rules mX8_axioms mX8_axiomCount mX8_givens mX8_givenCount mX8_wanted mX8_rows mX8_rowCount mX8_looked mX8_from mX8_needed mX8_broken mX8_places mX8_text mX8_size mX9_kind mX9_a mX9_b mX9_c mX26_rule mX26_instance mX26_premises mX26_count mX26_states mX26_right mX26_size (va_up mX10_takes q 0) (va_up mX10_name q none) mX12_any mX14_kind (va_up mX16_kind q 0) mX18_first mX19_either) := by
  funext b
  by_cases h : b = q
  · subst h
    rw [va_up_self]
    unfold cPC
    simp only [va_up_self]
  · rw [va_up_ne _ _ h]
    unfold cPC
    simp only [va_up_ne _ _ h]
theorem cPC_13 {ci : Nat → Nat} {d : Nat → ClassId} {kd : Nat → Nat} {an : Nat → Nat} {ai : Nat → Nat → Int32} {al : Nat → Nat → Int64} {ar : Nat → Nat → Option Nat} {mX8_rules : Nat → Option Nat} {mX8_axioms : Nat → Option Nat} {mX8_axiomCount : Nat → Int32} {mX8_givens : Nat → Option Nat} {mX8_givenCount : Nat → Int32} {mX8_wanted : Nat → Option Nat} {mX8_rows : Nat → Option Nat} {mX8_rowCount : Nat → Int32} {mX8_looked : Nat → Int32} {mX8_from : Nat → Option Nat} {mX8_needed : Nat → Option Nat} {mX8_broken : Nat → Int32} {mX8_places : Nat → Option Nat} {mX8_text : Nat → Option Nat} {mX8_size : Nat → Int32} {mX9_kind : Nat → Int32} {mX9_a : Nat → Int32} {mX9_b : Nat → Int32} {mX9_c : Nat → Int32} {mX26_rule : Nat → Int32} {mX26_instance : Nat → Int32} {mX26_premises : Nat → Option Nat} {mX26_count : Nat → Int32} {mX26_states : Nat → Option Nat} {mX26_right : Nat → Int32} {mX26_size : Nat → Int32} {mX10_takes : Nat → Int32} {mX10_name : Nat → Option Nat} {mX12_any : Nat → Int32} {mX14_kind : Nat → Int32} {mX16_kind : Nat → Int32} {mX18_first : Nat → Int32} {mX19_either : Nat → Int32} {a : Nat} (hk : kd a = 13) : (cPC ci d kd an ai al ar mX8_rules mX8_axioms mX8_axiomCount mX8_givens mX8_givenCount mX8_wanted mX8_rows mX8_rowCount mX8_looked mX8_from mX8_needed mX8_broken mX8_places mX8_text mX8_size mX9_kind mX9_a mX9_b mX9_c mX26_rule mX26_instance mX26_premises mX26_count mX26_states mX26_right mX26_size mX10_takes mX10_name mX12_any mX14_kind mX16_kind mX18_first mX19_either) a = .inr (ci 12, [.int (mX10_takes a), va_rf (mX10_name a)]) := by unfold cPC; simp only [hk]
theorem cPC_13_0 {ci : Nat → Nat} {d : Nat → ClassId} {kd : Nat → Nat} {an : Nat → Nat} {ai : Nat → Nat → Int32} {al : Nat → Nat → Int64} {ar : Nat → Nat → Option Nat} {mX8_rules : Nat → Option Nat} {mX8_axioms : Nat → Option Nat} {mX8_axiomCount : Nat → Int32} {mX8_givens : Nat → Option Nat} {mX8_givenCount : Nat → Int32} {mX8_wanted : Nat → Option Nat} {mX8_rows : Nat → Option Nat} {mX8_rowCount : Nat → Int32} {mX8_looked : Nat → Int32} {mX8_from : Nat → Option Nat} {mX8_needed : Nat → Option Nat} {mX8_broken : Nat → Int32} {mX8_places : Nat → Option Nat} {mX8_text : Nat → Option Nat} {mX8_size : Nat → Int32} {mX9_kind : Nat → Int32} {mX9_a : Nat → Int32} {mX9_b : Nat → Int32} {mX9_c : Nat → Int32} {mX26_rule : Nat → Int32} {mX26_instance : Nat → Int32} {mX26_premises : Nat → Option Nat} {mX26_count : Nat → Int32} {mX26_states : Nat → Option Nat} {mX26_right : Nat → Int32} {mX26_size : Nat → Int32} {mX10_takes : Nat → Int32} {mX10_name : Nat → Option Nat} {mX12_any : Nat → Int32} {mX14_kind : Nat → Int32} {mX16_kind : Nat → Int32} {mX18_first : Nat → Int32} {mX19_either : Nat → Int32} {a : Nat} {v : Int32} (hk : kd a = 13) : va_up (cPC ci d kd an ai al ar mX8_rules mX8_axioms mX8_axiomCount mX8_givens mX8_givenCount mX8_wanted mX8_rows mX8_rowCount mX8_looked mX8_from mX8_needed mX8_broken mX8_places mX8_text mX8_size mX9_kind mX9_a mX9_b mX9_c mX26_rule mX26_instance mX26_premises mX26_count mX26_states mX26_right mX26_size mX10_takes mX10_name mX12_any mX14_kind mX16_kind mX18_first mX19_either) a (.inr (ci 12, [.int v, va_rf (mX10_name a)])) = (cPC ci d kd an ai al ar mX8_rules mX8_axioms mX8_axiomCount mX8_givens mX8_givenCount mX8_wanted mX8_rows mX8_rowCount mX8_looked mX8_from mX8_needed mX8_broken mX8_places mX8_text mX8_size mX9_kind mX9_a mX9_b mX9_c mX26_rule mX26_instance mX26_premises mX26_count mX26_states mX26_right mX26_size (va_up mX10_takes a v) mX10_name mX12_any mX14_kind mX16_kind mX18_first mX19_either) := by
  funext b
  by_cases h : b = a
  · subst h
    rw [va_up_self]
    unfold cPC
    rw [hk]
    simp only [va_up_self]
  · rw [va_up_ne _ _ h]
    unfold cPC
    simp only [va_up_ne _ _ h]
theorem cPC_13_1 {ci : Nat → Nat} {d : Nat → ClassId} {kd : Nat → Nat} {an : Nat → Nat} {ai : Nat → Nat → Int32} {al : Nat → Nat → Int64} {ar : Nat → Nat → Option Nat} {mX8_rules : Nat → Option Nat} {mX8_axioms : Nat → Option Nat} {mX8_axiomCount : Nat → Int32} {mX8_givens : Nat → Option Nat} {mX8_givenCount : Nat → Int32} {mX8_wanted : Nat → Option Nat} {mX8_rows : Nat → Option Nat} {mX8_rowCount : Nat → Int32} {mX8_looked : Nat → Int32} {mX8_from : Nat → Option Nat} {mX8_needed : Nat → Option Nat} {mX8_broken : Nat → Int32} {mX8_places : Nat → Option Nat} {mX8_text : Nat → Option Nat} {mX8_size : Nat → Int32} {mX9_kind : Nat → Int32} {mX9_a : Nat → Int32} {mX9_b : Nat → Int32} {mX9_c : Nat → Int32} {mX26_rule : Nat → Int32} {mX26_instance : Nat → Int32} {mX26_premises : Nat → Option Nat} {mX26_count : Nat → Int32} {mX26_states : Nat → Option Nat} {mX26_right : Nat → Int32} {mX26_size : Nat → Int32} {mX10_takes : Nat → Int32} {mX10_name : Nat → Option Nat} {mX12_any : Nat → Int32} {mX14_kind : Nat → Int32} {mX16_kind : Nat → Int32} {mX18_first : Nat → Int32} {mX19_either : Nat → Int32} {a : Nat} {v : Option Nat} (hk : kd a = 13) : va_up (cPC ci d kd an ai al ar mX8_rules mX8_axioms mX8_axiomCount mX8_givens mX8_givenCount mX8_wanted mX8_rows mX8_rowCount mX8_looked mX8_from mX8_needed mX8_broken mX8_places mX8_text mX8_size mX9_kind mX9_a mX9_b mX9_c mX26_rule mX26_instance mX26_premises mX26_count mX26_states mX26_right mX26_size mX10_takes mX10_name mX12_any mX14_kind mX16_kind mX18_first mX19_either) a (.inr (ci 12, [.int (mX10_takes a), va_rf v])) = (cPC ci d kd an ai al ar mX8_rules mX8_axioms mX8_axiomCount mX8_givens mX8_givenCount mX8_wanted mX8_rows mX8_rowCount mX8_looked mX8_from mX8_needed mX8_broken mX8_places mX8_text mX8_size mX9_kind mX9_a mX9_b mX9_c mX26_rule mX26_instance mX26_premises mX26_count mX26_states mX26_right mX26_size mX10_takes (va_up mX10_name a v) mX12_any mX14_kind mX16_kind mX18_first mX19_either) := by
  funext b
  by_cases h : b = a
  · subst h
    rw [va_up_self]
    unfold cPC
    rw [hk]
    simp only [va_up_self]
  · rw [va_up_ne _ _ h]
    unfold cPC
    simp only [va_up_ne _ _ h]
theorem cPC_13_n {ci : Nat → Nat} {d : Nat → ClassId} {kd : Nat → Nat} {an : Nat → Nat} {ai : Nat → Nat → Int32} {al : Nat → Nat → Int64} {ar : Nat → Nat → Option Nat} {mX8_rules : Nat → Option Nat} {mX8_axioms : Nat → Option Nat} {mX8_axiomCount : Nat → Int32} {mX8_givens : Nat → Option Nat} {mX8_givenCount : Nat → Int32} {mX8_wanted : Nat → Option Nat} {mX8_rows : Nat → Option Nat} {mX8_rowCount : Nat → Int32} {mX8_looked : Nat → Int32} {mX8_from : Nat → Option Nat} {mX8_needed : Nat → Option Nat} {mX8_broken : Nat → Int32} {mX8_places : Nat → Option Nat} {mX8_text : Nat → Option Nat} {mX8_size : Nat → Int32} {mX9_kind : Nat → Int32} {mX9_a : Nat → Int32} {mX9_b : Nat → Int32} {mX9_c : Nat → Int32} {mX26_rule : Nat → Int32} {mX26_instance : Nat → Int32} {mX26_premises : Nat → Option Nat} {mX26_count : Nat → Int32} {mX26_states : Nat → Option Nat} {mX26_right : Nat → Int32} {mX26_size : Nat → Int32} {mX10_takes : Nat → Int32} {mX10_name : Nat → Option Nat} {mX12_any : Nat → Int32} {mX14_kind : Nat → Int32} {mX16_kind : Nat → Int32} {mX18_first : Nat → Int32} {mX19_either : Nat → Int32} (q : Nat) : va_up (cPC ci d kd an ai al ar mX8_rules mX8_axioms mX8_axiomCount mX8_givens mX8_givenCount mX8_wanted mX8_rows mX8_rowCount mX8_looked mX8_from mX8_needed mX8_broken mX8_places mX8_text mX8_size mX9_kind mX9_a mX9_b mX9_c mX26_rule mX26_instance mX26_premises mX26_count mX26_states mX26_right mX26_size mX10_takes mX10_name mX12_any mX14_kind mX16_kind mX18_first mX19_either) q (.inr (ci 12, [.int 0, va_rf none])) = (cPC ci d (va_up kd q 13) an ai al ar mX8_rules mX8_axioms mX8_axiomCount mX8_givens mX8_givenCount mX8_wanted mX8_rows mX8_rowCount mX8_looked mX8_from mX8_needed mX8_broken mX8_places mX8_text mX8_size mX9_kind mX9_a mX9_b mX9_c mX26_rule mX26_instance mX26_premises mX26_count mX26_states mX26_right mX26_size (va_up mX10_takes q 0) (va_up mX10_name q none) mX12_any mX14_kind mX16_kind mX18_first mX19_either) := by
  funext b
  by_cases h : b = q
  · subst h
    rw [va_up_self]
    unfold cPC
    simp only [va_up_self]
  · rw [va_up_ne _ _ h]
    unfold cPC
    simp only [va_up_ne _ _ h]
theorem cPC_14 {ci : Nat → Nat} {d : Nat → ClassId} {kd : Nat → Nat} {an : Nat → Nat} {ai : Nat → Nat → Int32} {al : Nat → Nat → Int64} {ar : Nat → Nat → Option Nat} {mX8_rules : Nat → Option Nat} {mX8_axioms : Nat → Option Nat} {mX8_axiomCount : Nat → Int32} {mX8_givens : Nat → Option Nat} {mX8_givenCount : Nat → Int32} {mX8_wanted : Nat → Option Nat} {mX8_rows : Nat → Option Nat} {mX8_rowCount : Nat → Int32} {mX8_looked : Nat → Int32} {mX8_from : Nat → Option Nat} {mX8_needed : Nat → Option Nat} {mX8_broken : Nat → Int32} {mX8_places : Nat → Option Nat} {mX8_text : Nat → Option Nat} {mX8_size : Nat → Int32} {mX9_kind : Nat → Int32} {mX9_a : Nat → Int32} {mX9_b : Nat → Int32} {mX9_c : Nat → Int32} {mX26_rule : Nat → Int32} {mX26_instance : Nat → Int32} {mX26_premises : Nat → Option Nat} {mX26_count : Nat → Int32} {mX26_states : Nat → Option Nat} {mX26_right : Nat → Int32} {mX26_size : Nat → Int32} {mX10_takes : Nat → Int32} {mX10_name : Nat → Option Nat} {mX12_any : Nat → Int32} {mX14_kind : Nat → Int32} {mX16_kind : Nat → Int32} {mX18_first : Nat → Int32} {mX19_either : Nat → Int32} {a : Nat} (hk : kd a = 14) : (cPC ci d kd an ai al ar mX8_rules mX8_axioms mX8_axiomCount mX8_givens mX8_givenCount mX8_wanted mX8_rows mX8_rowCount mX8_looked mX8_from mX8_needed mX8_broken mX8_places mX8_text mX8_size mX9_kind mX9_a mX9_b mX9_c mX26_rule mX26_instance mX26_premises mX26_count mX26_states mX26_right mX26_size mX10_takes mX10_name mX12_any mX14_kind mX16_kind mX18_first mX19_either) a = .inr (ci 13, [.int (mX10_takes a), va_rf (mX10_name a)]) := by unfold cPC; simp only [hk]
theorem cPC_14_0 {ci : Nat → Nat} {d : Nat → ClassId} {kd : Nat → Nat} {an : Nat → Nat} {ai : Nat → Nat → Int32} {al : Nat → Nat → Int64} {ar : Nat → Nat → Option Nat} {mX8_rules : Nat → Option Nat} {mX8_axioms : Nat → Option Nat} {mX8_axiomCount : Nat → Int32} {mX8_givens : Nat → Option Nat} {mX8_givenCount : Nat → Int32} {mX8_wanted : Nat → Option Nat} {mX8_rows : Nat → Option Nat} {mX8_rowCount : Nat → Int32} {mX8_looked : Nat → Int32} {mX8_from : Nat → Option Nat} {mX8_needed : Nat → Option Nat} {mX8_broken : Nat → Int32} {mX8_places : Nat → Option Nat} {mX8_text : Nat → Option Nat} {mX8_size : Nat → Int32} {mX9_kind : Nat → Int32} {mX9_a : Nat → Int32} {mX9_b : Nat → Int32} {mX9_c : Nat → Int32} {mX26_rule : Nat → Int32} {mX26_instance : Nat → Int32} {mX26_premises : Nat → Option Nat} {mX26_count : Nat → Int32} {mX26_states : Nat → Option Nat} {mX26_right : Nat → Int32} {mX26_size : Nat → Int32} {mX10_takes : Nat → Int32} {mX10_name : Nat → Option Nat} {mX12_any : Nat → Int32} {mX14_kind : Nat → Int32} {mX16_kind : Nat → Int32} {mX18_first : Nat → Int32} {mX19_either : Nat → Int32} {a : Nat} {v : Int32} (hk : kd a = 14) : va_up (cPC ci d kd an ai al ar mX8_rules mX8_axioms mX8_axiomCount mX8_givens mX8_givenCount mX8_wanted mX8_rows mX8_rowCount mX8_looked mX8_from mX8_needed mX8_broken mX8_places mX8_text mX8_size mX9_kind mX9_a mX9_b mX9_c mX26_rule mX26_instance mX26_premises mX26_count mX26_states mX26_right mX26_size mX10_takes mX10_name mX12_any mX14_kind mX16_kind mX18_first mX19_either) a (.inr (ci 13, [.int v, va_rf (mX10_name a)])) = (cPC ci d kd an ai al ar mX8_rules mX8_axioms mX8_axiomCount mX8_givens mX8_givenCount mX8_wanted mX8_rows mX8_rowCount mX8_looked mX8_from mX8_needed mX8_broken mX8_places mX8_text mX8_size mX9_kind mX9_a mX9_b mX9_c mX26_rule mX26_instance mX26_premises mX26_count mX26_states mX26_right mX26_size (va_up mX10_takes a v) mX10_name mX12_any mX14_kind mX16_kind mX18_first mX19_either) := by
  funext b
  by_cases h : b = a
  · subst h
    rw [va_up_self]
    unfold cPC
    rw [hk]
    simp only [va_up_self]
  · rw [va_up_ne _ _ h]
    unfold cPC
    simp only [va_up_ne _ _ h]
theorem cPC_14_1 {ci : Nat → Nat} {d : Nat → ClassId} {kd : Nat → Nat} {an : Nat → Nat} {ai : Nat → Nat → Int32} {al : Nat → Nat → Int64} {ar : Nat → Nat → Option Nat} {mX8_rules : Nat → Option Nat} {mX8_axioms : Nat → Option Nat} {mX8_axiomCount : Nat → Int32} {mX8_givens : Nat → Option Nat} {mX8_givenCount : Nat → Int32} {mX8_wanted : Nat → Option Nat} {mX8_rows : Nat → Option Nat} {mX8_rowCount : Nat → Int32} {mX8_looked : Nat → Int32} {mX8_from : Nat → Option Nat} {mX8_needed : Nat → Option Nat} {mX8_broken : Nat → Int32} {mX8_places : Nat → Option Nat} {mX8_text : Nat → Option Nat} {mX8_size : Nat → Int32} {mX9_kind : Nat → Int32} {mX9_a : Nat → Int32} {mX9_b : Nat → Int32} {mX9_c : Nat → Int32} {mX26_rule : Nat → Int32} {mX26_instance : Nat → Int32} {mX26_premises : Nat → Option Nat} {mX26_count : Nat → Int32} {mX26_states : Nat → Option Nat} {mX26_right : Nat → Int32} {mX26_size : Nat → Int32} {mX10_takes : Nat → Int32} {mX10_name : Nat → Option Nat} {mX12_any : Nat → Int32} {mX14_kind : Nat → Int32} {mX16_kind : Nat → Int32} {mX18_first : Nat → Int32} {mX19_either : Nat → Int32} {a : Nat} {v : Option Nat} (hk : kd a = 14) : va_up (cPC ci d kd an ai al ar mX8_rules mX8_axioms mX8_axiomCount mX8_givens mX8_givenCount mX8_wanted mX8_rows mX8_rowCount mX8_looked mX8_from mX8_needed mX8_broken mX8_places mX8_text mX8_size mX9_kind mX9_a mX9_b mX9_c mX26_rule mX26_instance mX26_premises mX26_count mX26_states mX26_right mX26_size mX10_takes mX10_name mX12_any mX14_kind mX16_kind mX18_first mX19_either) a (.inr (ci 13, [.int (mX10_takes a), va_rf v])) = (cPC ci d kd an ai al ar mX8_rules mX8_axioms mX8_axiomCount mX8_givens mX8_givenCount mX8_wanted mX8_rows mX8_rowCount mX8_looked mX8_from mX8_needed mX8_broken mX8_places mX8_text mX8_size mX9_kind mX9_a mX9_b mX9_c mX26_rule mX26_instance mX26_premises mX26_count mX26_states mX26_right mX26_size mX10_takes (va_up mX10_name a v) mX12_any mX14_kind mX16_kind mX18_first mX19_either) := by
  funext b
  by_cases h : b = a
  · subst h
    rw [va_up_self]
    unfold cPC
    rw [hk]
    simp only [va_up_self]
  · rw [va_up_ne _ _ h]
    unfold cPC
    simp only [va_up_ne _ _ h]
theorem cPC_14_n {ci : Nat → Nat} {d : Nat → ClassId} {kd : Nat → Nat} {an : Nat → Nat} {ai : Nat → Nat → Int32} {al : Nat → Nat → Int64} {ar : Nat → Nat → Option Nat} {mX8_rules : Nat → Option Nat} {mX8_axioms : Nat → Option Nat} {mX8_axiomCount : Nat → Int32} {mX8_givens : Nat → Option Nat} {mX8_givenCount : Nat → Int32} {mX8_wanted : Nat → Option Nat} {mX8_rows : Nat → Option Nat} {mX8_rowCount : Nat → Int32} {mX8_looked : Nat → Int32} {mX8_from : Nat → Option Nat} {mX8_needed : Nat → Option Nat} {mX8_broken : Nat → Int32} {mX8_places : Nat → Option Nat} {mX8_text : Nat → Option Nat} {mX8_size : Nat → Int32} {mX9_kind : Nat → Int32} {mX9_a : Nat → Int32} {mX9_b : Nat → Int32} {mX9_c : Nat → Int32} {mX26_rule : Nat → Int32} {mX26_instance : Nat → Int32} {mX26_premises : Nat → Option Nat} {mX26_count : Nat → Int32} {mX26_states : Nat → Option Nat} {mX26_right : Nat → Int32} {mX26_size : Nat → Int32} {mX10_takes : Nat → Int32} {mX10_name : Nat → Option Nat} {mX12_any : Nat → Int32} {mX14_kind : Nat → Int32} {mX16_kind : Nat → Int32} {mX18_first : Nat → Int32} {mX19_either : Nat → Int32} (q : Nat) : va_up (cPC ci d kd an ai al ar mX8_rules mX8_axioms mX8_axiomCount mX8_givens mX8_givenCount mX8_wanted mX8_rows mX8_rowCount mX8_looked mX8_from mX8_needed mX8_broken mX8_places mX8_text mX8_size mX9_kind mX9_a mX9_b mX9_c mX26_rule mX26_instance mX26_premises mX26_count mX26_states mX26_right mX26_size mX10_takes mX10_name mX12_any mX14_kind mX16_kind mX18_first mX19_either) q (.inr (ci 13, [.int 0, va_rf none])) = (cPC ci d (va_up kd q 14) an ai al ar mX8_rules mX8_axioms mX8_axiomCount mX8_givens mX8_givenCount mX8_wanted mX8_rows mX8_rowCount mX8_looked mX8_from mX8_needed mX8_broken mX8_places mX8_text mX8_size mX9_kind mX9_a mX9_b mX9_c mX26_rule mX26_instance mX26_premises mX26_count mX26_states mX26_right mX26_size (va_up mX10_takes q 0) (va_up mX10_name q none) mX12_any mX14_kind mX16_kind mX18_first mX19_either) := by
  funext b
  by_cases h : b = q
  · subst h
    rw [va_up_self]
    unfold cPC
    simp only [va_up_self]
  · rw [va_up_ne _ _ h]
    unfold cPC
    simp only [va_up_ne _ _ h]
theorem cPC_15 {ci : Nat → Nat} {d : Nat → ClassId} {kd : Nat → Nat} {an : Nat → Nat} {ai : Nat → Nat → Int32} {al : Nat → Nat → Int64} {ar : Nat → Nat → Option Nat} {mX8_rules : Nat → Option Nat} {mX8_axioms : Nat → Option Nat} {mX8_axiomCount : Nat → Int32} {mX8_givens : Nat → Option Nat} {mX8_givenCount : Nat → Int32} {mX8_wanted : Nat → Option Nat} {mX8_rows : Nat → Option Nat} {mX8_rowCount : Nat → Int32} {mX8_looked : Nat → Int32} {mX8_from : Nat → Option Nat} {mX8_needed : Nat → Option Nat} {mX8_broken : Nat → Int32} {mX8_places : Nat → Option Nat} {mX8_text : Nat → Option Nat} {mX8_size : Nat → Int32} {mX9_kind : Nat → Int32} {mX9_a : Nat → Int32} {mX9_b : Nat → Int32} {mX9_c : Nat → Int32} {mX26_rule : Nat → Int32} {mX26_instance : Nat → Int32} {mX26_premises : Nat → Option Nat} {mX26_count : Nat → Int32} {mX26_states : Nat → Option Nat} {mX26_right : Nat → Int32} {mX26_size : Nat → Int32} {mX10_takes : Nat → Int32} {mX10_name : Nat → Option Nat} {mX12_any : Nat → Int32} {mX14_kind : Nat → Int32} {mX16_kind : Nat → Int32} {mX18_first : Nat → Int32} {mX19_either : Nat → Int32} {a : Nat} (hk : kd a = 15) : (cPC ci d kd an ai al ar mX8_rules mX8_axioms mX8_axiomCount mX8_givens mX8_givenCount mX8_wanted mX8_rows mX8_rowCount mX8_looked mX8_from mX8_needed mX8_broken mX8_places mX8_text mX8_size mX9_kind mX9_a mX9_b mX9_c mX26_rule mX26_instance mX26_premises mX26_count mX26_states mX26_right mX26_size mX10_takes mX10_name mX12_any mX14_kind mX16_kind mX18_first mX19_either) a = .inr (ci 14, [.int (mX16_kind a), .int (mX10_takes a), va_rf (mX10_name a)]) := by unfold cPC; simp only [hk]
theorem cPC_15_0 {ci : Nat → Nat} {d : Nat → ClassId} {kd : Nat → Nat} {an : Nat → Nat} {ai : Nat → Nat → Int32} {al : Nat → Nat → Int64} {ar : Nat → Nat → Option Nat} {mX8_rules : Nat → Option Nat} {mX8_axioms : Nat → Option Nat} {mX8_axiomCount : Nat → Int32} {mX8_givens : Nat → Option Nat} {mX8_givenCount : Nat → Int32} {mX8_wanted : Nat → Option Nat} {mX8_rows : Nat → Option Nat} {mX8_rowCount : Nat → Int32} {mX8_looked : Nat → Int32} {mX8_from : Nat → Option Nat} {mX8_needed : Nat → Option Nat} {mX8_broken : Nat → Int32} {mX8_places : Nat → Option Nat} {mX8_text : Nat → Option Nat} {mX8_size : Nat → Int32} {mX9_kind : Nat → Int32} {mX9_a : Nat → Int32} {mX9_b : Nat → Int32} {mX9_c : Nat → Int32} {mX26_rule : Nat → Int32} {mX26_instance : Nat → Int32} {mX26_premises : Nat → Option Nat} {mX26_count : Nat → Int32} {mX26_states : Nat → Option Nat} {mX26_right : Nat → Int32} {mX26_size : Nat → Int32} {mX10_takes : Nat → Int32} {mX10_name : Nat → Option Nat} {mX12_any : Nat → Int32} {mX14_kind : Nat → Int32} {mX16_kind : Nat → Int32} {mX18_first : Nat → Int32} {mX19_either : Nat → Int32} {a : Nat} {v : Int32} (hk : kd a = 15) : va_up (cPC ci d kd an ai al ar mX8_rules mX8_axioms mX8_axiomCount mX8_givens mX8_givenCount mX8_wanted mX8_rows mX8_rowCount mX8_looked mX8_from mX8_needed mX8_broken mX8_places mX8_text mX8_size mX9_kind mX9_a mX9_b mX9_c mX26_rule mX26_instance mX26_premises mX26_count mX26_states mX26_right mX26_size mX10_takes mX10_name mX12_any mX14_kind mX16_kind mX18_first mX19_either) a (.inr (ci 14, [.int v, .int (mX10_takes a), va_rf (mX10_name a)])) = (cPC ci d kd an ai al ar mX8_rules mX8_axioms mX8_axiomCount mX8_givens mX8_givenCount mX8_wanted mX8_rows mX8_rowCount mX8_looked mX8_from mX8_needed mX8_broken mX8_places mX8_text mX8_size mX9_kind mX9_a mX9_b mX9_c mX26_rule mX26_instance mX26_premises mX26_count mX26_states mX26_right mX26_size mX10_takes mX10_name mX12_any mX14_kind (va_up mX16_kind a v) mX18_first mX19_either) := by
  funext b
  by_cases h : b = a
  · subst h
    rw [va_up_self]
    unfold cPC
    rw [hk]
    simp only [va_up_self]
  · rw [va_up_ne _ _ h]
    unfold cPC
    simp only [va_up_ne _ _ h]
theorem cPC_15_1 {ci : Nat → Nat} {d : Nat → ClassId} {kd : Nat → Nat} {an : Nat → Nat} {ai : Nat → Nat → Int32} {al : Nat → Nat → Int64} {ar : Nat → Nat → Option Nat} {mX8_rules : Nat → Option Nat} {mX8_axioms : Nat → Option Nat} {mX8_axiomCount : Nat → Int32} {mX8_givens : Nat → Option Nat} {mX8_givenCount : Nat → Int32} {mX8_wanted : Nat → Option Nat} {mX8_rows : Nat → Option Nat} {mX8_rowCount : Nat → Int32} {mX8_looked : Nat → Int32} {mX8_from : Nat → Option Nat} {mX8_needed : Nat → Option Nat} {mX8_broken : Nat → Int32} {mX8_places : Nat → Option Nat} {mX8_text : Nat → Option Nat} {mX8_size : Nat → Int32} {mX9_kind : Nat → Int32} {mX9_a : Nat → Int32} {mX9_b : Nat → Int32} {mX9_c : Nat → Int32} {mX26_rule : Nat → Int32} {mX26_instance : Nat → Int32} {mX26_premises : Nat → Option Nat} {mX26_count : Nat → Int32} {mX26_states : Nat → Option Nat} {mX26_right : Nat → Int32} {mX26_size : Nat → Int32} {mX10_takes : Nat → Int32} {mX10_name : Nat → Option Nat} {mX12_any : Nat → Int32} {mX14_kind : Nat → Int32} {mX16_kind : Nat → Int32} {mX18_first : Nat → Int32} {mX19_either : Nat → Int32} {a : Nat} {v : Int32} (hk : kd a = 15) : va_up (cPC ci d kd an ai al ar mX8_rules mX8_axioms mX8_axiomCount mX8_givens mX8_givenCount mX8_wanted mX8_rows mX8_rowCount mX8_looked mX8_from mX8_needed mX8_broken mX8_places mX8_text mX8_size mX9_kind mX9_a mX9_b mX9_c mX26_rule mX26_instance mX26_premises mX26_count mX26_states mX26_right mX26_size mX10_takes mX10_name mX12_any mX14_kind mX16_kind mX18_first mX19_either) a (.inr (ci 14, [.int (mX16_kind a), .int v, va_rf (mX10_name a)])) = (cPC ci d kd an ai al ar mX8_rules mX8_axioms mX8_axiomCount mX8_givens mX8_givenCount mX8_wanted mX8_rows mX8_rowCount mX8_looked mX8_from mX8_needed mX8_broken mX8_places mX8_text mX8_size mX9_kind mX9_a mX9_b mX9_c mX26_rule mX26_instance mX26_premises mX26_count mX26_states mX26_right mX26_size (va_up mX10_takes a v) mX10_name mX12_any mX14_kind mX16_kind mX18_first mX19_either) := by
  funext b
  by_cases h : b = a
  · subst h
    rw [va_up_self]
    unfold cPC
    rw [hk]
    simp only [va_up_self]
  · rw [va_up_ne _ _ h]
    unfold cPC
    simp only [va_up_ne _ _ h]
theorem cPC_15_2 {ci : Nat → Nat} {d : Nat → ClassId} {kd : Nat → Nat} {an : Nat → Nat} {ai : Nat → Nat → Int32} {al : Nat → Nat → Int64} {ar : Nat → Nat → Option Nat} {mX8_rules : Nat → Option Nat} {mX8_axioms : Nat → Option Nat} {mX8_axiomCount : Nat → Int32} {mX8_givens : Nat → Option Nat} {mX8_givenCount : Nat → Int32} {mX8_wanted : Nat → Option Nat} {mX8_rows : Nat → Option Nat} {mX8_rowCount : Nat → Int32} {mX8_looked : Nat → Int32} {mX8_from : Nat → Option Nat} {mX8_needed : Nat → Option Nat} {mX8_broken : Nat → Int32} {mX8_places : Nat → Option Nat} {mX8_text : Nat → Option Nat} {mX8_size : Nat → Int32} {mX9_kind : Nat → Int32} {mX9_a : Nat → Int32} {mX9_b : Nat → Int32} {mX9_c : Nat → Int32} {mX26_rule : Nat → Int32} {mX26_instance : Nat → Int32} {mX26_premises : Nat → Option Nat} {mX26_count : Nat → Int32} {mX26_states : Nat → Option Nat} {mX26_right : Nat → Int32} {mX26_size : Nat → Int32} {mX10_takes : Nat → Int32} {mX10_name : Nat → Option Nat} {mX12_any : Nat → Int32} {mX14_kind : Nat → Int32} {mX16_kind : Nat → Int32} {mX18_first : Nat → Int32} {mX19_either : Nat → Int32} {a : Nat} {v : Option Nat} (hk : kd a = 15) : va_up (cPC ci d kd an ai al ar mX8_rules mX8_axioms mX8_axiomCount mX8_givens mX8_givenCount mX8_wanted mX8_rows mX8_rowCount mX8_looked mX8_from mX8_needed mX8_broken mX8_places mX8_text mX8_size mX9_kind mX9_a mX9_b mX9_c mX26_rule mX26_instance mX26_premises mX26_count mX26_states mX26_right mX26_size mX10_takes mX10_name mX12_any mX14_kind mX16_kind mX18_first mX19_either) a (.inr (ci 14, [.int (mX16_kind a), .int (mX10_takes a), va_rf v])) = (cPC ci d kd an ai al ar mX8_rules mX8_axioms mX8_axiomCount mX8_givens mX8_givenCount mX8_wanted mX8_rows mX8_rowCount mX8_looked mX8_from mX8_needed mX8_broken mX8_places mX8_text mX8_size mX9_kind mX9_a mX9_b mX9_c mX26_rule mX26_instance mX26_premises mX26_count mX26_states mX26_right mX26_size mX10_takes (va_up mX10_name a v) mX12_any mX14_kind mX16_kind mX18_first mX19_either) := by
  funext b
  by_cases h : b = a
  · subst h
    rw [va_up_self]
    unfold cPC
    rw [hk]
    simp only [va_up_self]
  · rw [va_up_ne _ _ h]
    unfold cPC
    simp only [va_up_ne _ _ h]
theorem cPC_15_n {ci : Nat → Nat} {d : Nat → ClassId} {kd : Nat → Nat} {an : Nat → Nat} {ai : Nat → Nat → Int32} {al : Nat → Nat → Int64} {ar : Nat → Nat → Option Nat} {mX8_rules : Nat → Option Nat} {mX8_axioms : Nat → Option Nat} {mX8_axiomCount : Nat → Int32} {mX8_givens : Nat → Option Nat} {mX8_givenCount : Nat → Int32} {mX8_wanted : Nat → Option Nat} {mX8_rows : Nat → Option Nat} {mX8_rowCount : Nat → Int32} {mX8_looked : Nat → Int32} {mX8_from : Nat → Option Nat} {mX8_needed : Nat → Option Nat} {mX8_broken : Nat → Int32} {mX8_places : Nat → Option Nat} {mX8_text : Nat → Option Nat} {mX8_size : Nat → Int32} {mX9_kind : Nat → Int32} {mX9_a : Nat → Int32} {mX9_b : Nat → Int32} {mX9_c : Nat → Int32} {mX26_rule : Nat → Int32} {mX26_instance : Nat → Int32} {mX26_premises : Nat → Option Nat} {mX26_count : Nat → Int32} {mX26_states : Nat → Option Nat} {mX26_right : Nat → Int32} {mX26_size : Nat → Int32} {mX10_takes : Nat → Int32} {mX10_name : Nat → Option Nat} {mX12_any : Nat → Int32} {mX14_kind : Nat → Int32} {mX16_kind : Nat → Int32} {mX18_first : Nat → Int32} {mX19_either : Nat → Int32} (q : Nat) : va_up (cPC ci d kd an ai al ar mX8_rules mX8_axioms mX8_axiomCount mX8_givens mX8_givenCount mX8_wanted mX8_rows mX8_rowCount mX8_looked mX8_from mX8_needed mX8_broken mX8_places mX8_text mX8_size mX9_kind mX9_a mX9_b mX9_c mX26_rule mX26_instance mX26_premises mX26_count mX26_states mX26_right mX26_size mX10_takes mX10_name mX12_any mX14_kind mX16_kind mX18_first mX19_either) q (.inr (ci 14, [.int 0, .int 0, va_rf none])) = (cPC ci d (va_up kd q 15) an ai al ar mX8_rules mX8_axioms mX8_axiomCount mX8_givens mX8_givenCount mX8_wanted mX8_rows mX8_rowCount mX8_looked mX8_from mX8_needed mX8_broken mX8_places mX8_text mX8_size mX9_kind mX9_a mX9_b mX9_c mX26_rule mX26_instance mX26_premises mX26_count mX26_states mX26_right mX26_size (va_up mX10_takes q 0) (va_up mX10_name q none) mX12_any mX14_kind (va_up mX16_kind q 0) mX18_first mX19_either) := by
  funext b
  by_cases h : b = q
  · subst h
    rw [va_up_self]
    unfold cPC
    simp only [va_up_self]
  · rw [va_up_ne _ _ h]
    unfold cPC
    simp only [va_up_ne _ _ h]
theorem cPC_16 {ci : Nat → Nat} {d : Nat → ClassId} {kd : Nat → Nat} {an : Nat → Nat} {ai : Nat → Nat → Int32} {al : Nat → Nat → Int64} {ar : Nat → Nat → Option Nat} {mX8_rules : Nat → Option Nat} {mX8_axioms : Nat → Option Nat} {mX8_axiomCount : Nat → Int32} {mX8_givens : Nat → Option Nat} {mX8_givenCount : Nat → Int32} {mX8_wanted : Nat → Option Nat} {mX8_rows : Nat → Option Nat} {mX8_rowCount : Nat → Int32} {mX8_looked : Nat → Int32} {mX8_from : Nat → Option Nat} {mX8_needed : Nat → Option Nat} {mX8_broken : Nat → Int32} {mX8_places : Nat → Option Nat} {mX8_text : Nat → Option Nat} {mX8_size : Nat → Int32} {mX9_kind : Nat → Int32} {mX9_a : Nat → Int32} {mX9_b : Nat → Int32} {mX9_c : Nat → Int32} {mX26_rule : Nat → Int32} {mX26_instance : Nat → Int32} {mX26_premises : Nat → Option Nat} {mX26_count : Nat → Int32} {mX26_states : Nat → Option Nat} {mX26_right : Nat → Int32} {mX26_size : Nat → Int32} {mX10_takes : Nat → Int32} {mX10_name : Nat → Option Nat} {mX12_any : Nat → Int32} {mX14_kind : Nat → Int32} {mX16_kind : Nat → Int32} {mX18_first : Nat → Int32} {mX19_either : Nat → Int32} {a : Nat} (hk : kd a = 16) : (cPC ci d kd an ai al ar mX8_rules mX8_axioms mX8_axiomCount mX8_givens mX8_givenCount mX8_wanted mX8_rows mX8_rowCount mX8_looked mX8_from mX8_needed mX8_broken mX8_places mX8_text mX8_size mX9_kind mX9_a mX9_b mX9_c mX26_rule mX26_instance mX26_premises mX26_count mX26_states mX26_right mX26_size mX10_takes mX10_name mX12_any mX14_kind mX16_kind mX18_first mX19_either) a = .inr (ci 15, [.int (mX10_takes a), va_rf (mX10_name a)]) := by unfold cPC; simp only [hk]
theorem cPC_16_0 {ci : Nat → Nat} {d : Nat → ClassId} {kd : Nat → Nat} {an : Nat → Nat} {ai : Nat → Nat → Int32} {al : Nat → Nat → Int64} {ar : Nat → Nat → Option Nat} {mX8_rules : Nat → Option Nat} {mX8_axioms : Nat → Option Nat} {mX8_axiomCount : Nat → Int32} {mX8_givens : Nat → Option Nat} {mX8_givenCount : Nat → Int32} {mX8_wanted : Nat → Option Nat} {mX8_rows : Nat → Option Nat} {mX8_rowCount : Nat → Int32} {mX8_looked : Nat → Int32} {mX8_from : Nat → Option Nat} {mX8_needed : Nat → Option Nat} {mX8_broken : Nat → Int32} {mX8_places : Nat → Option Nat} {mX8_text : Nat → Option Nat} {mX8_size : Nat → Int32} {mX9_kind : Nat → Int32} {mX9_a : Nat → Int32} {mX9_b : Nat → Int32} {mX9_c : Nat → Int32} {mX26_rule : Nat → Int32} {mX26_instance : Nat → Int32} {mX26_premises : Nat → Option Nat} {mX26_count : Nat → Int32} {mX26_states : Nat → Option Nat} {mX26_right : Nat → Int32} {mX26_size : Nat → Int32} {mX10_takes : Nat → Int32} {mX10_name : Nat → Option Nat} {mX12_any : Nat → Int32} {mX14_kind : Nat → Int32} {mX16_kind : Nat → Int32} {mX18_first : Nat → Int32} {mX19_either : Nat → Int32} {a : Nat} {v : Int32} (hk : kd a = 16) : va_up (cPC ci d kd an ai al ar mX8_rules mX8_axioms mX8_axiomCount mX8_givens mX8_givenCount mX8_wanted mX8_rows mX8_rowCount mX8_looked mX8_from mX8_needed mX8_broken mX8_places mX8_text mX8_size mX9_kind mX9_a mX9_b mX9_c mX26_rule mX26_instance mX26_premises mX26_count mX26_states mX26_right mX26_size mX10_takes mX10_name mX12_any mX14_kind mX16_kind mX18_first mX19_either) a (.inr (ci 15, [.int v, va_rf (mX10_name a)])) = (cPC ci d kd an ai al ar mX8_rules mX8_axioms mX8_axiomCount mX8_givens mX8_givenCount mX8_wanted mX8_rows mX8_rowCount mX8_looked mX8_from mX8_needed mX8_broken mX8_places mX8_text mX8_size mX9_kind mX9_a mX9_b mX9_c mX26_rule mX26_instance mX26_premises mX26_count mX26_states mX26_right mX26_size (va_up mX10_takes a v) mX10_name mX12_any mX14_kind mX16_kind mX18_first mX19_either) := by
  funext b
  by_cases h : b = a
  · subst h
    rw [va_up_self]
    unfold cPC
    rw [hk]
    simp only [va_up_self]
  · rw [va_up_ne _ _ h]
    unfold cPC
    simp only [va_up_ne _ _ h]
theorem cPC_16_1 {ci : Nat → Nat} {d : Nat → ClassId} {kd : Nat → Nat} {an : Nat → Nat} {ai : Nat → Nat → Int32} {al : Nat → Nat → Int64} {ar : Nat → Nat → Option Nat} {mX8_rules : Nat → Option Nat} {mX8_axioms : Nat → Option Nat} {mX8_axiomCount : Nat → Int32} {mX8_givens : Nat → Option Nat} {mX8_givenCount : Nat → Int32} {mX8_wanted : Nat → Option Nat} {mX8_rows : Nat → Option Nat} {mX8_rowCount : Nat → Int32} {mX8_looked : Nat → Int32} {mX8_from : Nat → Option Nat} {mX8_needed : Nat → Option Nat} {mX8_broken : Nat → Int32} {mX8_places : Nat → Option Nat} {mX8_text : Nat → Option Nat} {mX8_size : Nat → Int32} {mX9_kind : Nat → Int32} {mX9_a : Nat → Int32} {mX9_b : Nat → Int32} {mX9_c : Nat → Int32} {mX26_rule : Nat → Int32} {mX26_instance : Nat → Int32} {mX26_premises : Nat → Option Nat} {mX26_count : Nat → Int32} {mX26_states : Nat → Option Nat} {mX26_right : Nat → Int32} {mX26_size : Nat → Int32} {mX10_takes : Nat → Int32} {mX10_name : Nat → Option Nat} {mX12_any : Nat → Int32} {mX14_kind : Nat → Int32} {mX16_kind : Nat → Int32} {mX18_first : Nat → Int32} {mX19_either : Nat → Int32} {a : Nat} {v : Option Nat} (hk : kd a = 16) : va_up (cPC ci d kd an ai al ar mX8_rules mX8_axioms mX8_axiomCount mX8_givens mX8_givenCount mX8_wanted mX8_rows mX8_rowCount mX8_looked mX8_from mX8_needed mX8_broken mX8_places mX8_text mX8_size mX9_kind mX9_a mX9_b mX9_c mX26_rule mX26_instance mX26_premises mX26_count mX26_states mX26_right mX26_size mX10_takes mX10_name mX12_any mX14_kind mX16_kind mX18_first mX19_either) a (.inr (ci 15, [.int (mX10_takes a), va_rf v])) = (cPC ci d kd an ai al ar mX8_rules mX8_axioms mX8_axiomCount mX8_givens mX8_givenCount mX8_wanted mX8_rows mX8_rowCount mX8_looked mX8_from mX8_needed mX8_broken mX8_places mX8_text mX8_size mX9_kind mX9_a mX9_b mX9_c mX26_rule mX26_instance mX26_premises mX26_count mX26_states mX26_right mX26_size mX10_takes (va_up mX10_name a v) mX12_any mX14_kind mX16_kind mX18_first mX19_either) := by
  funext b
  by_cases h : b = a
  · subst h
    rw [va_up_self]
    unfold cPC
    rw [hk]
    simp only [va_up_self]
  · rw [va_up_ne _ _ h]
    unfold cPC
    simp only [va_up_ne _ _ h]
theorem cPC_16_n {ci : Nat → Nat} {d : Nat → ClassId} {kd : Nat → Nat} {an : Nat → Nat} {ai : Nat → Nat → Int32} {al : Nat → Nat → Int64} {ar : Nat → Nat → Option Nat} {mX8_rules : Nat → Option Nat} {mX8_axioms : Nat → Option Nat} {mX8_axiomCount : Nat → Int32} {mX8_givens : Nat → Option Nat} {mX8_givenCount : Nat → Int32} {mX8_wanted : Nat → Option Nat} {mX8_rows : Nat → Option Nat} {mX8_rowCount : Nat → Int32} {mX8_looked : Nat → Int32} {mX8_from : Nat → Option Nat} {mX8_needed : Nat → Option Nat} {mX8_broken : Nat → Int32} {mX8_places : Nat → Option Nat} {mX8_text : Nat → Option Nat} {mX8_size : Nat → Int32} {mX9_kind : Nat → Int32} {mX9_a : Nat → Int32} {mX9_b : Nat → Int32} {mX9_c : Nat → Int32} {mX26_rule : Nat → Int32} {mX26_instance : Nat → Int32} {mX26_premises : Nat → Option Nat} {mX26_count : Nat → Int32} {mX26_states : Nat → Option Nat} {mX26_right : Nat → Int32} {mX26_size : Nat → Int32} {mX10_takes : Nat → Int32} {mX10_name : Nat → Option Nat} {mX12_any : Nat → Int32} {mX14_kind : Nat → Int32} {mX16_kind : Nat → Int32} {mX18_first : Nat → Int32} {mX19_either : Nat → Int32} (q : Nat) : va_up (cPC ci d kd an ai al ar mX8_rules mX8_axioms mX8_axiomCount mX8_givens mX8_givenCount mX8_wanted mX8_rows mX8_rowCount mX8_looked mX8_from mX8_needed mX8_broken mX8_places mX8_text mX8_size mX9_kind mX9_a mX9_b mX9_c mX26_rule mX26_instance mX26_premises mX26_count mX26_states mX26_right mX26_size mX10_takes mX10_name mX12_any mX14_kind mX16_kind mX18_first mX19_either) q (.inr (ci 15, [.int 0, va_rf none])) = (cPC ci d (va_up kd q 16) an ai al ar mX8_rules mX8_axioms mX8_axiomCount mX8_givens mX8_givenCount mX8_wanted mX8_rows mX8_rowCount mX8_looked mX8_from mX8_needed mX8_broken mX8_places mX8_text mX8_size mX9_kind mX9_a mX9_b mX9_c mX26_rule mX26_instance mX26_premises mX26_count mX26_states mX26_right mX26_size (va_up mX10_takes q 0) (va_up mX10_name q none) mX12_any mX14_kind mX16_kind mX18_first mX19_either) := by
  funext b
  by_cases h : b = q
  · subst h
    rw [va_up_self]
    unfold cPC
    simp only [va_up_self]
  · rw [va_up_ne _ _ h]
    unfold cPC
    simp only [va_up_ne _ _ h]
theorem cPC_17 {ci : Nat → Nat} {d : Nat → ClassId} {kd : Nat → Nat} {an : Nat → Nat} {ai : Nat → Nat → Int32} {al : Nat → Nat → Int64} {ar : Nat → Nat → Option Nat} {mX8_rules : Nat → Option Nat} {mX8_axioms : Nat → Option Nat} {mX8_axiomCount : Nat → Int32} {mX8_givens : Nat → Option Nat} {mX8_givenCount : Nat → Int32} {mX8_wanted : Nat → Option Nat} {mX8_rows : Nat → Option Nat} {mX8_rowCount : Nat → Int32} {mX8_looked : Nat → Int32} {mX8_from : Nat → Option Nat} {mX8_needed : Nat → Option Nat} {mX8_broken : Nat → Int32} {mX8_places : Nat → Option Nat} {mX8_text : Nat → Option Nat} {mX8_size : Nat → Int32} {mX9_kind : Nat → Int32} {mX9_a : Nat → Int32} {mX9_b : Nat → Int32} {mX9_c : Nat → Int32} {mX26_rule : Nat → Int32} {mX26_instance : Nat → Int32} {mX26_premises : Nat → Option Nat} {mX26_count : Nat → Int32} {mX26_states : Nat → Option Nat} {mX26_right : Nat → Int32} {mX26_size : Nat → Int32} {mX10_takes : Nat → Int32} {mX10_name : Nat → Option Nat} {mX12_any : Nat → Int32} {mX14_kind : Nat → Int32} {mX16_kind : Nat → Int32} {mX18_first : Nat → Int32} {mX19_either : Nat → Int32} {a : Nat} (hk : kd a = 17) : (cPC ci d kd an ai al ar mX8_rules mX8_axioms mX8_axiomCount mX8_givens mX8_givenCount mX8_wanted mX8_rows mX8_rowCount mX8_looked mX8_from mX8_needed mX8_broken mX8_places mX8_text mX8_size mX9_kind mX9_a mX9_b mX9_c mX26_rule mX26_instance mX26_premises mX26_count mX26_states mX26_right mX26_size mX10_takes mX10_name mX12_any mX14_kind mX16_kind mX18_first mX19_either) a = .inr (ci 16, [.int (mX10_takes a), va_rf (mX10_name a)]) := by unfold cPC; simp only [hk]
theorem cPC_17_0 {ci : Nat → Nat} {d : Nat → ClassId} {kd : Nat → Nat} {an : Nat → Nat} {ai : Nat → Nat → Int32} {al : Nat → Nat → Int64} {ar : Nat → Nat → Option Nat} {mX8_rules : Nat → Option Nat} {mX8_axioms : Nat → Option Nat} {mX8_axiomCount : Nat → Int32} {mX8_givens : Nat → Option Nat} {mX8_givenCount : Nat → Int32} {mX8_wanted : Nat → Option Nat} {mX8_rows : Nat → Option Nat} {mX8_rowCount : Nat → Int32} {mX8_looked : Nat → Int32} {mX8_from : Nat → Option Nat} {mX8_needed : Nat → Option Nat} {mX8_broken : Nat → Int32} {mX8_places : Nat → Option Nat} {mX8_text : Nat → Option Nat} {mX8_size : Nat → Int32} {mX9_kind : Nat → Int32} {mX9_a : Nat → Int32} {mX9_b : Nat → Int32} {mX9_c : Nat → Int32} {mX26_rule : Nat → Int32} {mX26_instance : Nat → Int32} {mX26_premises : Nat → Option Nat} {mX26_count : Nat → Int32} {mX26_states : Nat → Option Nat} {mX26_right : Nat → Int32} {mX26_size : Nat → Int32} {mX10_takes : Nat → Int32} {mX10_name : Nat → Option Nat} {mX12_any : Nat → Int32} {mX14_kind : Nat → Int32} {mX16_kind : Nat → Int32} {mX18_first : Nat → Int32} {mX19_either : Nat → Int32} {a : Nat} {v : Int32} (hk : kd a = 17) : va_up (cPC ci d kd an ai al ar mX8_rules mX8_axioms mX8_axiomCount mX8_givens mX8_givenCount mX8_wanted mX8_rows mX8_rowCount mX8_looked mX8_from mX8_needed mX8_broken mX8_places mX8_text mX8_size mX9_kind mX9_a mX9_b mX9_c mX26_rule mX26_instance mX26_premises mX26_count mX26_states mX26_right mX26_size mX10_takes mX10_name mX12_any mX14_kind mX16_kind mX18_first mX19_either) a (.inr (ci 16, [.int v, va_rf (mX10_name a)])) = (cPC ci d kd an ai al ar mX8_rules mX8_axioms mX8_axiomCount mX8_givens mX8_givenCount mX8_wanted mX8_rows mX8_rowCount mX8_looked mX8_from mX8_needed mX8_broken mX8_places mX8_text mX8_size mX9_kind mX9_a mX9_b mX9_c mX26_rule mX26_instance mX26_premises mX26_count mX26_states mX26_right mX26_size (va_up mX10_takes a v) mX10_name mX12_any mX14_kind mX16_kind mX18_first mX19_either) := by
  funext b
  by_cases h : b = a
  · subst h
    rw [va_up_self]
    unfold cPC
    rw [hk]
    simp only [va_up_self]
  · rw [va_up_ne _ _ h]
    unfold cPC
    simp only [va_up_ne _ _ h]
theorem cPC_17_1 {ci : Nat → Nat} {d : Nat → ClassId} {kd : Nat → Nat} {an : Nat → Nat} {ai : Nat → Nat → Int32} {al : Nat → Nat → Int64} {ar : Nat → Nat → Option Nat} {mX8_rules : Nat → Option Nat} {mX8_axioms : Nat → Option Nat} {mX8_axiomCount : Nat → Int32} {mX8_givens : Nat → Option Nat} {mX8_givenCount : Nat → Int32} {mX8_wanted : Nat → Option Nat} {mX8_rows : Nat → Option Nat} {mX8_rowCount : Nat → Int32} {mX8_looked : Nat → Int32} {mX8_from : Nat → Option Nat} {mX8_needed : Nat → Option Nat} {mX8_broken : Nat → Int32} {mX8_places : Nat → Option Nat} {mX8_text : Nat → Option Nat} {mX8_size : Nat → Int32} {mX9_kind : Nat → Int32} {mX9_a : Nat → Int32} {mX9_b : Nat → Int32} {mX9_c : Nat → Int32} {mX26_rule : Nat → Int32} {mX26_instance : Nat → Int32} {mX26_premises : Nat → Option Nat} {mX26_count : Nat → Int32} {mX26_states : Nat → Option Nat} {mX26_right : Nat → Int32} {mX26_size : Nat → Int32} {mX10_takes : Nat → Int32} {mX10_name : Nat → Option Nat} {mX12_any : Nat → Int32} {mX14_kind : Nat → Int32} {mX16_kind : Nat → Int32} {mX18_first : Nat → Int32} {mX19_either : Nat → Int32} {a : Nat} {v : Option Nat} (hk : kd a = 17) : va_up (cPC ci d kd an ai al ar mX8_rules mX8_axioms mX8_axiomCount mX8_givens mX8_givenCount mX8_wanted mX8_rows mX8_rowCount mX8_looked mX8_from mX8_needed mX8_broken mX8_places mX8_text mX8_size mX9_kind mX9_a mX9_b mX9_c mX26_rule mX26_instance mX26_premises mX26_count mX26_states mX26_right mX26_size mX10_takes mX10_name mX12_any mX14_kind mX16_kind mX18_first mX19_either) a (.inr (ci 16, [.int (mX10_takes a), va_rf v])) = (cPC ci d kd an ai al ar mX8_rules mX8_axioms mX8_axiomCount mX8_givens mX8_givenCount mX8_wanted mX8_rows mX8_rowCount mX8_looked mX8_from mX8_needed mX8_broken mX8_places mX8_text mX8_size mX9_kind mX9_a mX9_b mX9_c mX26_rule mX26_instance mX26_premises mX26_count mX26_states mX26_right mX26_size mX10_takes (va_up mX10_name a v) mX12_any mX14_kind mX16_kind mX18_first mX19_either) := by
  funext b
  by_cases h : b = a
  · subst h
    rw [va_up_self]
    unfold cPC
    rw [hk]
    simp only [va_up_self]
  · rw [va_up_ne _ _ h]
    unfold cPC
    simp only [va_up_ne _ _ h]
theorem cPC_17_n {ci : Nat → Nat} {d : Nat → ClassId} {kd : Nat → Nat} {an : Nat → Nat} {ai : Nat → Nat → Int32} {al : Nat → Nat → Int64} {ar : Nat → Nat → Option Nat} {mX8_rules : Nat → Option Nat} {mX8_axioms : Nat → Option Nat} {mX8_axiomCount : Nat → Int32} {mX8_givens : Nat → Option Nat} {mX8_givenCount : Nat → Int32} {mX8_wanted : Nat → Option Nat} {mX8_rows : Nat → Option Nat} {mX8_rowCount : Nat → Int32} {mX8_looked : Nat → Int32} {mX8_from : Nat → Option Nat} {mX8_needed : Nat → Option Nat} {mX8_broken : Nat → Int32} {mX8_places : Nat → Option Nat} {mX8_text : Nat → Option Nat} {mX8_size : Nat → Int32} {mX9_kind : Nat → Int32} {mX9_a : Nat → Int32} {mX9_b : Nat → Int32} {mX9_c : Nat → Int32} {mX26_rule : Nat → Int32} {mX26_instance : Nat → Int32} {mX26_premises : Nat → Option Nat} {mX26_count : Nat → Int32} {mX26_states : Nat → Option Nat} {mX26_right : Nat → Int32} {mX26_size : Nat → Int32} {mX10_takes : Nat → Int32} {mX10_name : Nat → Option Nat} {mX12_any : Nat → Int32} {mX14_kind : Nat → Int32} {mX16_kind : Nat → Int32} {mX18_first : Nat → Int32} {mX19_either : Nat → Int32} (q : Nat) : va_up (cPC ci d kd an ai al ar mX8_rules mX8_axioms mX8_axiomCount mX8_givens mX8_givenCount mX8_wanted mX8_rows mX8_rowCount mX8_looked mX8_from mX8_needed mX8_broken mX8_places mX8_text mX8_size mX9_kind mX9_a mX9_b mX9_c mX26_rule mX26_instance mX26_premises mX26_count mX26_states mX26_right mX26_size mX10_takes mX10_name mX12_any mX14_kind mX16_kind mX18_first mX19_either) q (.inr (ci 16, [.int 0, va_rf none])) = (cPC ci d (va_up kd q 17) an ai al ar mX8_rules mX8_axioms mX8_axiomCount mX8_givens mX8_givenCount mX8_wanted mX8_rows mX8_rowCount mX8_looked mX8_from mX8_needed mX8_broken mX8_places mX8_text mX8_size mX9_kind mX9_a mX9_b mX9_c mX26_rule mX26_instance mX26_premises mX26_count mX26_states mX26_right mX26_size (va_up mX10_takes q 0) (va_up mX10_name q none) mX12_any mX14_kind mX16_kind mX18_first mX19_either) := by
  funext b
  by_cases h : b = q
  · subst h
    rw [va_up_self]
    unfold cPC
    simp only [va_up_self]
  · rw [va_up_ne _ _ h]
    unfold cPC
    simp only [va_up_ne _ _ h]
theorem cPC_18 {ci : Nat → Nat} {d : Nat → ClassId} {kd : Nat → Nat} {an : Nat → Nat} {ai : Nat → Nat → Int32} {al : Nat → Nat → Int64} {ar : Nat → Nat → Option Nat} {mX8_rules : Nat → Option Nat} {mX8_axioms : Nat → Option Nat} {mX8_axiomCount : Nat → Int32} {mX8_givens : Nat → Option Nat} {mX8_givenCount : Nat → Int32} {mX8_wanted : Nat → Option Nat} {mX8_rows : Nat → Option Nat} {mX8_rowCount : Nat → Int32} {mX8_looked : Nat → Int32} {mX8_from : Nat → Option Nat} {mX8_needed : Nat → Option Nat} {mX8_broken : Nat → Int32} {mX8_places : Nat → Option Nat} {mX8_text : Nat → Option Nat} {mX8_size : Nat → Int32} {mX9_kind : Nat → Int32} {mX9_a : Nat → Int32} {mX9_b : Nat → Int32} {mX9_c : Nat → Int32} {mX26_rule : Nat → Int32} {mX26_instance : Nat → Int32} {mX26_premises : Nat → Option Nat} {mX26_count : Nat → Int32} {mX26_states : Nat → Option Nat} {mX26_right : Nat → Int32} {mX26_size : Nat → Int32} {mX10_takes : Nat → Int32} {mX10_name : Nat → Option Nat} {mX12_any : Nat → Int32} {mX14_kind : Nat → Int32} {mX16_kind : Nat → Int32} {mX18_first : Nat → Int32} {mX19_either : Nat → Int32} {a : Nat} (hk : kd a = 18) : (cPC ci d kd an ai al ar mX8_rules mX8_axioms mX8_axiomCount mX8_givens mX8_givenCount mX8_wanted mX8_rows mX8_rowCount mX8_looked mX8_from mX8_needed mX8_broken mX8_places mX8_text mX8_size mX9_kind mX9_a mX9_b mX9_c mX26_rule mX26_instance mX26_premises mX26_count mX26_states mX26_right mX26_size mX10_takes mX10_name mX12_any mX14_kind mX16_kind mX18_first mX19_either) a = .inl (d 0, an a, .inl (ai a)) := by unfold cPC; simp only [hk]
theorem cPC_18_s {ci : Nat → Nat} {d : Nat → ClassId} {kd : Nat → Nat} {an : Nat → Nat} {ai : Nat → Nat → Int32} {al : Nat → Nat → Int64} {ar : Nat → Nat → Option Nat} {mX8_rules : Nat → Option Nat} {mX8_axioms : Nat → Option Nat} {mX8_axiomCount : Nat → Int32} {mX8_givens : Nat → Option Nat} {mX8_givenCount : Nat → Int32} {mX8_wanted : Nat → Option Nat} {mX8_rows : Nat → Option Nat} {mX8_rowCount : Nat → Int32} {mX8_looked : Nat → Int32} {mX8_from : Nat → Option Nat} {mX8_needed : Nat → Option Nat} {mX8_broken : Nat → Int32} {mX8_places : Nat → Option Nat} {mX8_text : Nat → Option Nat} {mX8_size : Nat → Int32} {mX9_kind : Nat → Int32} {mX9_a : Nat → Int32} {mX9_b : Nat → Int32} {mX9_c : Nat → Int32} {mX26_rule : Nat → Int32} {mX26_instance : Nat → Int32} {mX26_premises : Nat → Option Nat} {mX26_count : Nat → Int32} {mX26_states : Nat → Option Nat} {mX26_right : Nat → Int32} {mX26_size : Nat → Int32} {mX10_takes : Nat → Int32} {mX10_name : Nat → Option Nat} {mX12_any : Nat → Int32} {mX14_kind : Nat → Int32} {mX16_kind : Nat → Int32} {mX18_first : Nat → Int32} {mX19_either : Nat → Int32} {a : Nat} {g : Nat → Int32} (hk : kd a = 18) : va_up (cPC ci d kd an ai al ar mX8_rules mX8_axioms mX8_axiomCount mX8_givens mX8_givenCount mX8_wanted mX8_rows mX8_rowCount mX8_looked mX8_from mX8_needed mX8_broken mX8_places mX8_text mX8_size mX9_kind mX9_a mX9_b mX9_c mX26_rule mX26_instance mX26_premises mX26_count mX26_states mX26_right mX26_size mX10_takes mX10_name mX12_any mX14_kind mX16_kind mX18_first mX19_either) a (.inl (d 0, an a, .inl g)) = (cPC ci d kd an (va_up ai a g) al ar mX8_rules mX8_axioms mX8_axiomCount mX8_givens mX8_givenCount mX8_wanted mX8_rows mX8_rowCount mX8_looked mX8_from mX8_needed mX8_broken mX8_places mX8_text mX8_size mX9_kind mX9_a mX9_b mX9_c mX26_rule mX26_instance mX26_premises mX26_count mX26_states mX26_right mX26_size mX10_takes mX10_name mX12_any mX14_kind mX16_kind mX18_first mX19_either) := by
  funext b
  by_cases h : b = a
  · subst h
    rw [va_up_self]
    unfold cPC
    rw [hk]
    simp only [va_up_self]
  · rw [va_up_ne _ _ h]
    unfold cPC
    simp only [va_up_ne _ _ h]
theorem cPC_18_n {ci : Nat → Nat} {d : Nat → ClassId} {kd : Nat → Nat} {an : Nat → Nat} {ai : Nat → Nat → Int32} {al : Nat → Nat → Int64} {ar : Nat → Nat → Option Nat} {mX8_rules : Nat → Option Nat} {mX8_axioms : Nat → Option Nat} {mX8_axiomCount : Nat → Int32} {mX8_givens : Nat → Option Nat} {mX8_givenCount : Nat → Int32} {mX8_wanted : Nat → Option Nat} {mX8_rows : Nat → Option Nat} {mX8_rowCount : Nat → Int32} {mX8_looked : Nat → Int32} {mX8_from : Nat → Option Nat} {mX8_needed : Nat → Option Nat} {mX8_broken : Nat → Int32} {mX8_places : Nat → Option Nat} {mX8_text : Nat → Option Nat} {mX8_size : Nat → Int32} {mX9_kind : Nat → Int32} {mX9_a : Nat → Int32} {mX9_b : Nat → Int32} {mX9_c : Nat → Int32} {mX26_rule : Nat → Int32} {mX26_instance : Nat → Int32} {mX26_premises : Nat → Option Nat} {mX26_count : Nat → Int32} {mX26_states : Nat → Option Nat} {mX26_right : Nat → Int32} {mX26_size : Nat → Int32} {mX10_takes : Nat → Int32} {mX10_name : Nat → Option Nat} {mX12_any : Nat → Int32} {mX14_kind : Nat → Int32} {mX16_kind : Nat → Int32} {mX18_first : Nat → Int32} {mX19_either : Nat → Int32} (n q : Nat) : va_up (cPC ci d kd an ai al ar mX8_rules mX8_axioms mX8_axiomCount mX8_givens mX8_givenCount mX8_wanted mX8_rows mX8_rowCount mX8_looked mX8_from mX8_needed mX8_broken mX8_places mX8_text mX8_size mX9_kind mX9_a mX9_b mX9_c mX26_rule mX26_instance mX26_premises mX26_count mX26_states mX26_right mX26_size mX10_takes mX10_name mX12_any mX14_kind mX16_kind mX18_first mX19_either) q (.inl (d 0, n, .inl (fun _ => 0))) = (cPC ci d (va_up kd q 18) (va_up an q n) (va_up ai q (fun _ => 0)) al ar mX8_rules mX8_axioms mX8_axiomCount mX8_givens mX8_givenCount mX8_wanted mX8_rows mX8_rowCount mX8_looked mX8_from mX8_needed mX8_broken mX8_places mX8_text mX8_size mX9_kind mX9_a mX9_b mX9_c mX26_rule mX26_instance mX26_premises mX26_count mX26_states mX26_right mX26_size mX10_takes mX10_name mX12_any mX14_kind mX16_kind mX18_first mX19_either) := by
  funext b
  by_cases h : b = q
  · subst h
    rw [va_up_self]
    unfold cPC
    simp only [va_up_self]
  · rw [va_up_ne _ _ h]
    unfold cPC
    simp only [va_up_ne _ _ h]
theorem cPC_19 {ci : Nat → Nat} {d : Nat → ClassId} {kd : Nat → Nat} {an : Nat → Nat} {ai : Nat → Nat → Int32} {al : Nat → Nat → Int64} {ar : Nat → Nat → Option Nat} {mX8_rules : Nat → Option Nat} {mX8_axioms : Nat → Option Nat} {mX8_axiomCount : Nat → Int32} {mX8_givens : Nat → Option Nat} {mX8_givenCount : Nat → Int32} {mX8_wanted : Nat → Option Nat} {mX8_rows : Nat → Option Nat} {mX8_rowCount : Nat → Int32} {mX8_looked : Nat → Int32} {mX8_from : Nat → Option Nat} {mX8_needed : Nat → Option Nat} {mX8_broken : Nat → Int32} {mX8_places : Nat → Option Nat} {mX8_text : Nat → Option Nat} {mX8_size : Nat → Int32} {mX9_kind : Nat → Int32} {mX9_a : Nat → Int32} {mX9_b : Nat → Int32} {mX9_c : Nat → Int32} {mX26_rule : Nat → Int32} {mX26_instance : Nat → Int32} {mX26_premises : Nat → Option Nat} {mX26_count : Nat → Int32} {mX26_states : Nat → Option Nat} {mX26_right : Nat → Int32} {mX26_size : Nat → Int32} {mX10_takes : Nat → Int32} {mX10_name : Nat → Option Nat} {mX12_any : Nat → Int32} {mX14_kind : Nat → Int32} {mX16_kind : Nat → Int32} {mX18_first : Nat → Int32} {mX19_either : Nat → Int32} {a : Nat} (hk : kd a = 19) : (cPC ci d kd an ai al ar mX8_rules mX8_axioms mX8_axiomCount mX8_givens mX8_givenCount mX8_wanted mX8_rows mX8_rowCount mX8_looked mX8_from mX8_needed mX8_broken mX8_places mX8_text mX8_size mX9_kind mX9_a mX9_b mX9_c mX26_rule mX26_instance mX26_premises mX26_count mX26_states mX26_right mX26_size mX10_takes mX10_name mX12_any mX14_kind mX16_kind mX18_first mX19_either) a = .inl (d 1, an a, .inl (ai a)) := by unfold cPC; simp only [hk]
theorem cPC_19_s {ci : Nat → Nat} {d : Nat → ClassId} {kd : Nat → Nat} {an : Nat → Nat} {ai : Nat → Nat → Int32} {al : Nat → Nat → Int64} {ar : Nat → Nat → Option Nat} {mX8_rules : Nat → Option Nat} {mX8_axioms : Nat → Option Nat} {mX8_axiomCount : Nat → Int32} {mX8_givens : Nat → Option Nat} {mX8_givenCount : Nat → Int32} {mX8_wanted : Nat → Option Nat} {mX8_rows : Nat → Option Nat} {mX8_rowCount : Nat → Int32} {mX8_looked : Nat → Int32} {mX8_from : Nat → Option Nat} {mX8_needed : Nat → Option Nat} {mX8_broken : Nat → Int32} {mX8_places : Nat → Option Nat} {mX8_text : Nat → Option Nat} {mX8_size : Nat → Int32} {mX9_kind : Nat → Int32} {mX9_a : Nat → Int32} {mX9_b : Nat → Int32} {mX9_c : Nat → Int32} {mX26_rule : Nat → Int32} {mX26_instance : Nat → Int32} {mX26_premises : Nat → Option Nat} {mX26_count : Nat → Int32} {mX26_states : Nat → Option Nat} {mX26_right : Nat → Int32} {mX26_size : Nat → Int32} {mX10_takes : Nat → Int32} {mX10_name : Nat → Option Nat} {mX12_any : Nat → Int32} {mX14_kind : Nat → Int32} {mX16_kind : Nat → Int32} {mX18_first : Nat → Int32} {mX19_either : Nat → Int32} {a : Nat} {g : Nat → Int32} (hk : kd a = 19) : va_up (cPC ci d kd an ai al ar mX8_rules mX8_axioms mX8_axiomCount mX8_givens mX8_givenCount mX8_wanted mX8_rows mX8_rowCount mX8_looked mX8_from mX8_needed mX8_broken mX8_places mX8_text mX8_size mX9_kind mX9_a mX9_b mX9_c mX26_rule mX26_instance mX26_premises mX26_count mX26_states mX26_right mX26_size mX10_takes mX10_name mX12_any mX14_kind mX16_kind mX18_first mX19_either) a (.inl (d 1, an a, .inl g)) = (cPC ci d kd an (va_up ai a g) al ar mX8_rules mX8_axioms mX8_axiomCount mX8_givens mX8_givenCount mX8_wanted mX8_rows mX8_rowCount mX8_looked mX8_from mX8_needed mX8_broken mX8_places mX8_text mX8_size mX9_kind mX9_a mX9_b mX9_c mX26_rule mX26_instance mX26_premises mX26_count mX26_states mX26_right mX26_size mX10_takes mX10_name mX12_any mX14_kind mX16_kind mX18_first mX19_either) := by
  funext b
  by_cases h : b = a
  · subst h
    rw [va_up_self]
    unfold cPC
    rw [hk]
    simp only [va_up_self]
  · rw [va_up_ne _ _ h]
    unfold cPC
    simp only [va_up_ne _ _ h]
theorem cPC_19_n {ci : Nat → Nat} {d : Nat → ClassId} {kd : Nat → Nat} {an : Nat → Nat} {ai : Nat → Nat → Int32} {al : Nat → Nat → Int64} {ar : Nat → Nat → Option Nat} {mX8_rules : Nat → Option Nat} {mX8_axioms : Nat → Option Nat} {mX8_axiomCount : Nat → Int32} {mX8_givens : Nat → Option Nat} {mX8_givenCount : Nat → Int32} {mX8_wanted : Nat → Option Nat} {mX8_rows : Nat → Option Nat} {mX8_rowCount : Nat → Int32} {mX8_looked : Nat → Int32} {mX8_from : Nat → Option Nat} {mX8_needed : Nat → Option Nat} {mX8_broken : Nat → Int32} {mX8_places : Nat → Option Nat} {mX8_text : Nat → Option Nat} {mX8_size : Nat → Int32} {mX9_kind : Nat → Int32} {mX9_a : Nat → Int32} {mX9_b : Nat → Int32} {mX9_c : Nat → Int32} {mX26_rule : Nat → Int32} {mX26_instance : Nat → Int32} {mX26_premises : Nat → Option Nat} {mX26_count : Nat → Int32} {mX26_states : Nat → Option Nat} {mX26_right : Nat → Int32} {mX26_size : Nat → Int32} {mX10_takes : Nat → Int32} {mX10_name : Nat → Option Nat} {mX12_any : Nat → Int32} {mX14_kind : Nat → Int32} {mX16_kind : Nat → Int32} {mX18_first : Nat → Int32} {mX19_either : Nat → Int32} (n q : Nat) : va_up (cPC ci d kd an ai al ar mX8_rules mX8_axioms mX8_axiomCount mX8_givens mX8_givenCount mX8_wanted mX8_rows mX8_rowCount mX8_looked mX8_from mX8_needed mX8_broken mX8_places mX8_text mX8_size mX9_kind mX9_a mX9_b mX9_c mX26_rule mX26_instance mX26_premises mX26_count mX26_states mX26_right mX26_size mX10_takes mX10_name mX12_any mX14_kind mX16_kind mX18_first mX19_either) q (.inl (d 1, n, .inl (fun _ => 0))) = (cPC ci d (va_up kd q 19) (va_up an q n) (va_up ai q (fun _ => 0)) al ar mX8_rules mX8_axioms mX8_axiomCount mX8_givens mX8_givenCount mX8_wanted mX8_rows mX8_rowCount mX8_looked mX8_from mX8_needed mX8_broken mX8_places mX8_text mX8_size mX9_kind mX9_a mX9_b mX9_c mX26_rule mX26_instance mX26_premises mX26_count mX26_states mX26_right mX26_size mX10_takes mX10_name mX12_any mX14_kind mX16_kind mX18_first mX19_either) := by
  funext b
  by_cases h : b = q
  · subst h
    rw [va_up_self]
    unfold cPC
    simp only [va_up_self]
  · rw [va_up_ne _ _ h]
    unfold cPC
    simp only [va_up_ne _ _ h]
theorem cPC_20 {ci : Nat → Nat} {d : Nat → ClassId} {kd : Nat → Nat} {an : Nat → Nat} {ai : Nat → Nat → Int32} {al : Nat → Nat → Int64} {ar : Nat → Nat → Option Nat} {mX8_rules : Nat → Option Nat} {mX8_axioms : Nat → Option Nat} {mX8_axiomCount : Nat → Int32} {mX8_givens : Nat → Option Nat} {mX8_givenCount : Nat → Int32} {mX8_wanted : Nat → Option Nat} {mX8_rows : Nat → Option Nat} {mX8_rowCount : Nat → Int32} {mX8_looked : Nat → Int32} {mX8_from : Nat → Option Nat} {mX8_needed : Nat → Option Nat} {mX8_broken : Nat → Int32} {mX8_places : Nat → Option Nat} {mX8_text : Nat → Option Nat} {mX8_size : Nat → Int32} {mX9_kind : Nat → Int32} {mX9_a : Nat → Int32} {mX9_b : Nat → Int32} {mX9_c : Nat → Int32} {mX26_rule : Nat → Int32} {mX26_instance : Nat → Int32} {mX26_premises : Nat → Option Nat} {mX26_count : Nat → Int32} {mX26_states : Nat → Option Nat} {mX26_right : Nat → Int32} {mX26_size : Nat → Int32} {mX10_takes : Nat → Int32} {mX10_name : Nat → Option Nat} {mX12_any : Nat → Int32} {mX14_kind : Nat → Int32} {mX16_kind : Nat → Int32} {mX18_first : Nat → Int32} {mX19_either : Nat → Int32} {a : Nat} (hk : kd a = 20) : (cPC ci d kd an ai al ar mX8_rules mX8_axioms mX8_axiomCount mX8_givens mX8_givenCount mX8_wanted mX8_rows mX8_rowCount mX8_looked mX8_from mX8_needed mX8_broken mX8_places mX8_text mX8_size mX9_kind mX9_a mX9_b mX9_c mX26_rule mX26_instance mX26_premises mX26_count mX26_states mX26_right mX26_size mX10_takes mX10_name mX12_any mX14_kind mX16_kind mX18_first mX19_either) a = .inl (d 2, an a, .inl (ai a)) := by unfold cPC; simp only [hk]
theorem cPC_20_s {ci : Nat → Nat} {d : Nat → ClassId} {kd : Nat → Nat} {an : Nat → Nat} {ai : Nat → Nat → Int32} {al : Nat → Nat → Int64} {ar : Nat → Nat → Option Nat} {mX8_rules : Nat → Option Nat} {mX8_axioms : Nat → Option Nat} {mX8_axiomCount : Nat → Int32} {mX8_givens : Nat → Option Nat} {mX8_givenCount : Nat → Int32} {mX8_wanted : Nat → Option Nat} {mX8_rows : Nat → Option Nat} {mX8_rowCount : Nat → Int32} {mX8_looked : Nat → Int32} {mX8_from : Nat → Option Nat} {mX8_needed : Nat → Option Nat} {mX8_broken : Nat → Int32} {mX8_places : Nat → Option Nat} {mX8_text : Nat → Option Nat} {mX8_size : Nat → Int32} {mX9_kind : Nat → Int32} {mX9_a : Nat → Int32} {mX9_b : Nat → Int32} {mX9_c : Nat → Int32} {mX26_rule : Nat → Int32} {mX26_instance : Nat → Int32} {mX26_premises : Nat → Option Nat} {mX26_count : Nat → Int32} {mX26_states : Nat → Option Nat} {mX26_right : Nat → Int32} {mX26_size : Nat → Int32} {mX10_takes : Nat → Int32} {mX10_name : Nat → Option Nat} {mX12_any : Nat → Int32} {mX14_kind : Nat → Int32} {mX16_kind : Nat → Int32} {mX18_first : Nat → Int32} {mX19_either : Nat → Int32} {a : Nat} {g : Nat → Int32} (hk : kd a = 20) : va_up (cPC ci d kd an ai al ar mX8_rules mX8_axioms mX8_axiomCount mX8_givens mX8_givenCount mX8_wanted mX8_rows mX8_rowCount mX8_looked mX8_from mX8_needed mX8_broken mX8_places mX8_text mX8_size mX9_kind mX9_a mX9_b mX9_c mX26_rule mX26_instance mX26_premises mX26_count mX26_states mX26_right mX26_size mX10_takes mX10_name mX12_any mX14_kind mX16_kind mX18_first mX19_either) a (.inl (d 2, an a, .inl g)) = (cPC ci d kd an (va_up ai a g) al ar mX8_rules mX8_axioms mX8_axiomCount mX8_givens mX8_givenCount mX8_wanted mX8_rows mX8_rowCount mX8_looked mX8_from mX8_needed mX8_broken mX8_places mX8_text mX8_size mX9_kind mX9_a mX9_b mX9_c mX26_rule mX26_instance mX26_premises mX26_count mX26_states mX26_right mX26_size mX10_takes mX10_name mX12_any mX14_kind mX16_kind mX18_first mX19_either) := by
  funext b
  by_cases h : b = a
  · subst h
    rw [va_up_self]
    unfold cPC
    rw [hk]
    simp only [va_up_self]
  · rw [va_up_ne _ _ h]
    unfold cPC
    simp only [va_up_ne _ _ h]
theorem cPC_20_n {ci : Nat → Nat} {d : Nat → ClassId} {kd : Nat → Nat} {an : Nat → Nat} {ai : Nat → Nat → Int32} {al : Nat → Nat → Int64} {ar : Nat → Nat → Option Nat} {mX8_rules : Nat → Option Nat} {mX8_axioms : Nat → Option Nat} {mX8_axiomCount : Nat → Int32} {mX8_givens : Nat → Option Nat} {mX8_givenCount : Nat → Int32} {mX8_wanted : Nat → Option Nat} {mX8_rows : Nat → Option Nat} {mX8_rowCount : Nat → Int32} {mX8_looked : Nat → Int32} {mX8_from : Nat → Option Nat} {mX8_needed : Nat → Option Nat} {mX8_broken : Nat → Int32} {mX8_places : Nat → Option Nat} {mX8_text : Nat → Option Nat} {mX8_size : Nat → Int32} {mX9_kind : Nat → Int32} {mX9_a : Nat → Int32} {mX9_b : Nat → Int32} {mX9_c : Nat → Int32} {mX26_rule : Nat → Int32} {mX26_instance : Nat → Int32} {mX26_premises : Nat → Option Nat} {mX26_count : Nat → Int32} {mX26_states : Nat → Option Nat} {mX26_right : Nat → Int32} {mX26_size : Nat → Int32} {mX10_takes : Nat → Int32} {mX10_name : Nat → Option Nat} {mX12_any : Nat → Int32} {mX14_kind : Nat → Int32} {mX16_kind : Nat → Int32} {mX18_first : Nat → Int32} {mX19_either : Nat → Int32} (n q : Nat) : va_up (cPC ci d kd an ai al ar mX8_rules mX8_axioms mX8_axiomCount mX8_givens mX8_givenCount mX8_wanted mX8_rows mX8_rowCount mX8_looked mX8_from mX8_needed mX8_broken mX8_places mX8_text mX8_size mX9_kind mX9_a mX9_b mX9_c mX26_rule mX26_instance mX26_premises mX26_count mX26_states mX26_right mX26_size mX10_takes mX10_name mX12_any mX14_kind mX16_kind mX18_first mX19_either) q (.inl (d 2, n, .inl (fun _ => 0))) = (cPC ci d (va_up kd q 20) (va_up an q n) (va_up ai q (fun _ => 0)) al ar mX8_rules mX8_axioms mX8_axiomCount mX8_givens mX8_givenCount mX8_wanted mX8_rows mX8_rowCount mX8_looked mX8_from mX8_needed mX8_broken mX8_places mX8_text mX8_size mX9_kind mX9_a mX9_b mX9_c mX26_rule mX26_instance mX26_premises mX26_count mX26_states mX26_right mX26_size mX10_takes mX10_name mX12_any mX14_kind mX16_kind mX18_first mX19_either) := by
  funext b
  by_cases h : b = q
  · subst h
    rw [va_up_self]
    unfold cPC
    simp only [va_up_self]
  · rw [va_up_ne _ _ h]
    unfold cPC
    simp only [va_up_ne _ _ h]
theorem cPC_21 {ci : Nat → Nat} {d : Nat → ClassId} {kd : Nat → Nat} {an : Nat → Nat} {ai : Nat → Nat → Int32} {al : Nat → Nat → Int64} {ar : Nat → Nat → Option Nat} {mX8_rules : Nat → Option Nat} {mX8_axioms : Nat → Option Nat} {mX8_axiomCount : Nat → Int32} {mX8_givens : Nat → Option Nat} {mX8_givenCount : Nat → Int32} {mX8_wanted : Nat → Option Nat} {mX8_rows : Nat → Option Nat} {mX8_rowCount : Nat → Int32} {mX8_looked : Nat → Int32} {mX8_from : Nat → Option Nat} {mX8_needed : Nat → Option Nat} {mX8_broken : Nat → Int32} {mX8_places : Nat → Option Nat} {mX8_text : Nat → Option Nat} {mX8_size : Nat → Int32} {mX9_kind : Nat → Int32} {mX9_a : Nat → Int32} {mX9_b : Nat → Int32} {mX9_c : Nat → Int32} {mX26_rule : Nat → Int32} {mX26_instance : Nat → Int32} {mX26_premises : Nat → Option Nat} {mX26_count : Nat → Int32} {mX26_states : Nat → Option Nat} {mX26_right : Nat → Int32} {mX26_size : Nat → Int32} {mX10_takes : Nat → Int32} {mX10_name : Nat → Option Nat} {mX12_any : Nat → Int32} {mX14_kind : Nat → Int32} {mX16_kind : Nat → Int32} {mX18_first : Nat → Int32} {mX19_either : Nat → Int32} {a : Nat} (hk : kd a = 21) : (cPC ci d kd an ai al ar mX8_rules mX8_axioms mX8_axiomCount mX8_givens mX8_givenCount mX8_wanted mX8_rows mX8_rowCount mX8_looked mX8_from mX8_needed mX8_broken mX8_places mX8_text mX8_size mX9_kind mX9_a mX9_b mX9_c mX26_rule mX26_instance mX26_premises mX26_count mX26_states mX26_right mX26_size mX10_takes mX10_name mX12_any mX14_kind mX16_kind mX18_first mX19_either) a = .inl (d 3, an a, .inr (.inr (.inr (.inr (ar a))))) := by unfold cPC; simp only [hk]
theorem cPC_21_s {ci : Nat → Nat} {d : Nat → ClassId} {kd : Nat → Nat} {an : Nat → Nat} {ai : Nat → Nat → Int32} {al : Nat → Nat → Int64} {ar : Nat → Nat → Option Nat} {mX8_rules : Nat → Option Nat} {mX8_axioms : Nat → Option Nat} {mX8_axiomCount : Nat → Int32} {mX8_givens : Nat → Option Nat} {mX8_givenCount : Nat → Int32} {mX8_wanted : Nat → Option Nat} {mX8_rows : Nat → Option Nat} {mX8_rowCount : Nat → Int32} {mX8_looked : Nat → Int32} {mX8_from : Nat → Option Nat} {mX8_needed : Nat → Option Nat} {mX8_broken : Nat → Int32} {mX8_places : Nat → Option Nat} {mX8_text : Nat → Option Nat} {mX8_size : Nat → Int32} {mX9_kind : Nat → Int32} {mX9_a : Nat → Int32} {mX9_b : Nat → Int32} {mX9_c : Nat → Int32} {mX26_rule : Nat → Int32} {mX26_instance : Nat → Int32} {mX26_premises : Nat → Option Nat} {mX26_count : Nat → Int32} {mX26_states : Nat → Option Nat} {mX26_right : Nat → Int32} {mX26_size : Nat → Int32} {mX10_takes : Nat → Int32} {mX10_name : Nat → Option Nat} {mX12_any : Nat → Int32} {mX14_kind : Nat → Int32} {mX16_kind : Nat → Int32} {mX18_first : Nat → Int32} {mX19_either : Nat → Int32} {a : Nat} {g : Nat → Option Nat} (hk : kd a = 21) : va_up (cPC ci d kd an ai al ar mX8_rules mX8_axioms mX8_axiomCount mX8_givens mX8_givenCount mX8_wanted mX8_rows mX8_rowCount mX8_looked mX8_from mX8_needed mX8_broken mX8_places mX8_text mX8_size mX9_kind mX9_a mX9_b mX9_c mX26_rule mX26_instance mX26_premises mX26_count mX26_states mX26_right mX26_size mX10_takes mX10_name mX12_any mX14_kind mX16_kind mX18_first mX19_either) a (.inl (d 3, an a, .inr (.inr (.inr (.inr g))))) = (cPC ci d kd an ai al (va_up ar a g) mX8_rules mX8_axioms mX8_axiomCount mX8_givens mX8_givenCount mX8_wanted mX8_rows mX8_rowCount mX8_looked mX8_from mX8_needed mX8_broken mX8_places mX8_text mX8_size mX9_kind mX9_a mX9_b mX9_c mX26_rule mX26_instance mX26_premises mX26_count mX26_states mX26_right mX26_size mX10_takes mX10_name mX12_any mX14_kind mX16_kind mX18_first mX19_either) := by
  funext b
  by_cases h : b = a
  · subst h
    rw [va_up_self]
    unfold cPC
    rw [hk]
    simp only [va_up_self]
  · rw [va_up_ne _ _ h]
    unfold cPC
    simp only [va_up_ne _ _ h]
theorem cPC_21_n {ci : Nat → Nat} {d : Nat → ClassId} {kd : Nat → Nat} {an : Nat → Nat} {ai : Nat → Nat → Int32} {al : Nat → Nat → Int64} {ar : Nat → Nat → Option Nat} {mX8_rules : Nat → Option Nat} {mX8_axioms : Nat → Option Nat} {mX8_axiomCount : Nat → Int32} {mX8_givens : Nat → Option Nat} {mX8_givenCount : Nat → Int32} {mX8_wanted : Nat → Option Nat} {mX8_rows : Nat → Option Nat} {mX8_rowCount : Nat → Int32} {mX8_looked : Nat → Int32} {mX8_from : Nat → Option Nat} {mX8_needed : Nat → Option Nat} {mX8_broken : Nat → Int32} {mX8_places : Nat → Option Nat} {mX8_text : Nat → Option Nat} {mX8_size : Nat → Int32} {mX9_kind : Nat → Int32} {mX9_a : Nat → Int32} {mX9_b : Nat → Int32} {mX9_c : Nat → Int32} {mX26_rule : Nat → Int32} {mX26_instance : Nat → Int32} {mX26_premises : Nat → Option Nat} {mX26_count : Nat → Int32} {mX26_states : Nat → Option Nat} {mX26_right : Nat → Int32} {mX26_size : Nat → Int32} {mX10_takes : Nat → Int32} {mX10_name : Nat → Option Nat} {mX12_any : Nat → Int32} {mX14_kind : Nat → Int32} {mX16_kind : Nat → Int32} {mX18_first : Nat → Int32} {mX19_either : Nat → Int32} (n q : Nat) : va_up (cPC ci d kd an ai al ar mX8_rules mX8_axioms mX8_axiomCount mX8_givens mX8_givenCount mX8_wanted mX8_rows mX8_rowCount mX8_looked mX8_from mX8_needed mX8_broken mX8_places mX8_text mX8_size mX9_kind mX9_a mX9_b mX9_c mX26_rule mX26_instance mX26_premises mX26_count mX26_states mX26_right mX26_size mX10_takes mX10_name mX12_any mX14_kind mX16_kind mX18_first mX19_either) q (.inl (d 3, n, .inr (.inr (.inr (.inr (fun _ => none)))))) = (cPC ci d (va_up kd q 21) (va_up an q n) ai al (va_up ar q (fun _ => none)) mX8_rules mX8_axioms mX8_axiomCount mX8_givens mX8_givenCount mX8_wanted mX8_rows mX8_rowCount mX8_looked mX8_from mX8_needed mX8_broken mX8_places mX8_text mX8_size mX9_kind mX9_a mX9_b mX9_c mX26_rule mX26_instance mX26_premises mX26_count mX26_states mX26_right mX26_size mX10_takes mX10_name mX12_any mX14_kind mX16_kind mX18_first mX19_either) := by
  funext b
  by_cases h : b = q
  · subst h
    rw [va_up_self]
    unfold cPC
    simp only [va_up_self]
  · rw [va_up_ne _ _ h]
    unfold cPC
    simp only [va_up_ne _ _ h]
theorem cPC_22 {ci : Nat → Nat} {d : Nat → ClassId} {kd : Nat → Nat} {an : Nat → Nat} {ai : Nat → Nat → Int32} {al : Nat → Nat → Int64} {ar : Nat → Nat → Option Nat} {mX8_rules : Nat → Option Nat} {mX8_axioms : Nat → Option Nat} {mX8_axiomCount : Nat → Int32} {mX8_givens : Nat → Option Nat} {mX8_givenCount : Nat → Int32} {mX8_wanted : Nat → Option Nat} {mX8_rows : Nat → Option Nat} {mX8_rowCount : Nat → Int32} {mX8_looked : Nat → Int32} {mX8_from : Nat → Option Nat} {mX8_needed : Nat → Option Nat} {mX8_broken : Nat → Int32} {mX8_places : Nat → Option Nat} {mX8_text : Nat → Option Nat} {mX8_size : Nat → Int32} {mX9_kind : Nat → Int32} {mX9_a : Nat → Int32} {mX9_b : Nat → Int32} {mX9_c : Nat → Int32} {mX26_rule : Nat → Int32} {mX26_instance : Nat → Int32} {mX26_premises : Nat → Option Nat} {mX26_count : Nat → Int32} {mX26_states : Nat → Option Nat} {mX26_right : Nat → Int32} {mX26_size : Nat → Int32} {mX10_takes : Nat → Int32} {mX10_name : Nat → Option Nat} {mX12_any : Nat → Int32} {mX14_kind : Nat → Int32} {mX16_kind : Nat → Int32} {mX18_first : Nat → Int32} {mX19_either : Nat → Int32} {a : Nat} (hk : kd a = 22) : (cPC ci d kd an ai al ar mX8_rules mX8_axioms mX8_axiomCount mX8_givens mX8_givenCount mX8_wanted mX8_rows mX8_rowCount mX8_looked mX8_from mX8_needed mX8_broken mX8_places mX8_text mX8_size mX9_kind mX9_a mX9_b mX9_c mX26_rule mX26_instance mX26_premises mX26_count mX26_states mX26_right mX26_size mX10_takes mX10_name mX12_any mX14_kind mX16_kind mX18_first mX19_either) a = .inl (d 4, an a, .inr (.inr (.inr (.inr (ar a))))) := by unfold cPC; simp only [hk]
theorem cPC_22_s {ci : Nat → Nat} {d : Nat → ClassId} {kd : Nat → Nat} {an : Nat → Nat} {ai : Nat → Nat → Int32} {al : Nat → Nat → Int64} {ar : Nat → Nat → Option Nat} {mX8_rules : Nat → Option Nat} {mX8_axioms : Nat → Option Nat} {mX8_axiomCount : Nat → Int32} {mX8_givens : Nat → Option Nat} {mX8_givenCount : Nat → Int32} {mX8_wanted : Nat → Option Nat} {mX8_rows : Nat → Option Nat} {mX8_rowCount : Nat → Int32} {mX8_looked : Nat → Int32} {mX8_from : Nat → Option Nat} {mX8_needed : Nat → Option Nat} {mX8_broken : Nat → Int32} {mX8_places : Nat → Option Nat} {mX8_text : Nat → Option Nat} {mX8_size : Nat → Int32} {mX9_kind : Nat → Int32} {mX9_a : Nat → Int32} {mX9_b : Nat → Int32} {mX9_c : Nat → Int32} {mX26_rule : Nat → Int32} {mX26_instance : Nat → Int32} {mX26_premises : Nat → Option Nat} {mX26_count : Nat → Int32} {mX26_states : Nat → Option Nat} {mX26_right : Nat → Int32} {mX26_size : Nat → Int32} {mX10_takes : Nat → Int32} {mX10_name : Nat → Option Nat} {mX12_any : Nat → Int32} {mX14_kind : Nat → Int32} {mX16_kind : Nat → Int32} {mX18_first : Nat → Int32} {mX19_either : Nat → Int32} {a : Nat} {g : Nat → Option Nat} (hk : kd a = 22) : va_up (cPC ci d kd an ai al ar mX8_rules mX8_axioms mX8_axiomCount mX8_givens mX8_givenCount mX8_wanted mX8_rows mX8_rowCount mX8_looked mX8_from mX8_needed mX8_broken mX8_places mX8_text mX8_size mX9_kind mX9_a mX9_b mX9_c mX26_rule mX26_instance mX26_premises mX26_count mX26_states mX26_right mX26_size mX10_takes mX10_name mX12_any mX14_kind mX16_kind mX18_first mX19_either) a (.inl (d 4, an a, .inr (.inr (.inr (.inr g))))) = (cPC ci d kd an ai al (va_up ar a g) mX8_rules mX8_axioms mX8_axiomCount mX8_givens mX8_givenCount mX8_wanted mX8_rows mX8_rowCount mX8_looked mX8_from mX8_needed mX8_broken mX8_places mX8_text mX8_size mX9_kind mX9_a mX9_b mX9_c mX26_rule mX26_instance mX26_premises mX26_count mX26_states mX26_right mX26_size mX10_takes mX10_name mX12_any mX14_kind mX16_kind mX18_first mX19_either) := by
  funext b
  by_cases h : b = a
  · subst h
    rw [va_up_self]
    unfold cPC
    rw [hk]
    simp only [va_up_self]
  · rw [va_up_ne _ _ h]
    unfold cPC
    simp only [va_up_ne _ _ h]
theorem cPC_22_n {ci : Nat → Nat} {d : Nat → ClassId} {kd : Nat → Nat} {an : Nat → Nat} {ai : Nat → Nat → Int32} {al : Nat → Nat → Int64} {ar : Nat → Nat → Option Nat} {mX8_rules : Nat → Option Nat} {mX8_axioms : Nat → Option Nat} {mX8_axiomCount : Nat → Int32} {mX8_givens : Nat → Option Nat} {mX8_givenCount : Nat → Int32} {mX8_wanted : Nat → Option Nat} {mX8_rows : Nat → Option Nat} {mX8_rowCount : Nat → Int32} {mX8_looked : Nat → Int32} {mX8_from : Nat → Option Nat} {mX8_needed : Nat → Option Nat} {mX8_broken : Nat → Int32} {mX8_places : Nat → Option Nat} {mX8_text : Nat → Option Nat} {mX8_size : Nat → Int32} {mX9_kind : Nat → Int32} {mX9_a : Nat → Int32} {mX9_b : Nat → Int32} {mX9_c : Nat → Int32} {mX26_rule : Nat → Int32} {mX26_instance : Nat → Int32} {mX26_premises : Nat → Option Nat} {mX26_count : Nat → Int32} {mX26_states : Nat → Option Nat} {mX26_right : Nat → Int32} {mX26_size : Nat → Int32} {mX10_takes : Nat → Int32} {mX10_name : Nat → Option Nat} {mX12_any : Nat → Int32} {mX14_kind : Nat → Int32} {mX16_kind : Nat → Int32} {mX18_first : Nat → Int32} {mX19_either : Nat → Int32} (n q : Nat) : va_up (cPC ci d kd an ai al ar mX8_rules mX8_axioms mX8_axiomCount mX8_givens mX8_givenCount mX8_wanted mX8_rows mX8_rowCount mX8_looked mX8_from mX8_needed mX8_broken mX8_places mX8_text mX8_size mX9_kind mX9_a mX9_b mX9_c mX26_rule mX26_instance mX26_premises mX26_count mX26_states mX26_right mX26_size mX10_takes mX10_name mX12_any mX14_kind mX16_kind mX18_first mX19_either) q (.inl (d 4, n, .inr (.inr (.inr (.inr (fun _ => none)))))) = (cPC ci d (va_up kd q 22) (va_up an q n) ai al (va_up ar q (fun _ => none)) mX8_rules mX8_axioms mX8_axiomCount mX8_givens mX8_givenCount mX8_wanted mX8_rows mX8_rowCount mX8_looked mX8_from mX8_needed mX8_broken mX8_places mX8_text mX8_size mX9_kind mX9_a mX9_b mX9_c mX26_rule mX26_instance mX26_premises mX26_count mX26_states mX26_right mX26_size mX10_takes mX10_name mX12_any mX14_kind mX16_kind mX18_first mX19_either) := by
  funext b
  by_cases h : b = q
  · subst h
    rw [va_up_self]
    unfold cPC
    simp only [va_up_self]
  · rw [va_up_ne _ _ h]
    unfold cPC
    simp only [va_up_ne _ _ h]
theorem cPC_23 {ci : Nat → Nat} {d : Nat → ClassId} {kd : Nat → Nat} {an : Nat → Nat} {ai : Nat → Nat → Int32} {al : Nat → Nat → Int64} {ar : Nat → Nat → Option Nat} {mX8_rules : Nat → Option Nat} {mX8_axioms : Nat → Option Nat} {mX8_axiomCount : Nat → Int32} {mX8_givens : Nat → Option Nat} {mX8_givenCount : Nat → Int32} {mX8_wanted : Nat → Option Nat} {mX8_rows : Nat → Option Nat} {mX8_rowCount : Nat → Int32} {mX8_looked : Nat → Int32} {mX8_from : Nat → Option Nat} {mX8_needed : Nat → Option Nat} {mX8_broken : Nat → Int32} {mX8_places : Nat → Option Nat} {mX8_text : Nat → Option Nat} {mX8_size : Nat → Int32} {mX9_kind : Nat → Int32} {mX9_a : Nat → Int32} {mX9_b : Nat → Int32} {mX9_c : Nat → Int32} {mX26_rule : Nat → Int32} {mX26_instance : Nat → Int32} {mX26_premises : Nat → Option Nat} {mX26_count : Nat → Int32} {mX26_states : Nat → Option Nat} {mX26_right : Nat → Int32} {mX26_size : Nat → Int32} {mX10_takes : Nat → Int32} {mX10_name : Nat → Option Nat} {mX12_any : Nat → Int32} {mX14_kind : Nat → Int32} {mX16_kind : Nat → Int32} {mX18_first : Nat → Int32} {mX19_either : Nat → Int32} {a : Nat} (hk : kd a = 23) : (cPC ci d kd an ai al ar mX8_rules mX8_axioms mX8_axiomCount mX8_givens mX8_givenCount mX8_wanted mX8_rows mX8_rowCount mX8_looked mX8_from mX8_needed mX8_broken mX8_places mX8_text mX8_size mX9_kind mX9_a mX9_b mX9_c mX26_rule mX26_instance mX26_premises mX26_count mX26_states mX26_right mX26_size mX10_takes mX10_name mX12_any mX14_kind mX16_kind mX18_first mX19_either) a = .inl (d 5, an a, .inr (.inr (.inr (.inr (ar a))))) := by unfold cPC; simp only [hk]
theorem cPC_23_s {ci : Nat → Nat} {d : Nat → ClassId} {kd : Nat → Nat} {an : Nat → Nat} {ai : Nat → Nat → Int32} {al : Nat → Nat → Int64} {ar : Nat → Nat → Option Nat} {mX8_rules : Nat → Option Nat} {mX8_axioms : Nat → Option Nat} {mX8_axiomCount : Nat → Int32} {mX8_givens : Nat → Option Nat} {mX8_givenCount : Nat → Int32} {mX8_wanted : Nat → Option Nat} {mX8_rows : Nat → Option Nat} {mX8_rowCount : Nat → Int32} {mX8_looked : Nat → Int32} {mX8_from : Nat → Option Nat} {mX8_needed : Nat → Option Nat} {mX8_broken : Nat → Int32} {mX8_places : Nat → Option Nat} {mX8_text : Nat → Option Nat} {mX8_size : Nat → Int32} {mX9_kind : Nat → Int32} {mX9_a : Nat → Int32} {mX9_b : Nat → Int32} {mX9_c : Nat → Int32} {mX26_rule : Nat → Int32} {mX26_instance : Nat → Int32} {mX26_premises : Nat → Option Nat} {mX26_count : Nat → Int32} {mX26_states : Nat → Option Nat} {mX26_right : Nat → Int32} {mX26_size : Nat → Int32} {mX10_takes : Nat → Int32} {mX10_name : Nat → Option Nat} {mX12_any : Nat → Int32} {mX14_kind : Nat → Int32} {mX16_kind : Nat → Int32} {mX18_first : Nat → Int32} {mX19_either : Nat → Int32} {a : Nat} {g : Nat → Option Nat} (hk : kd a = 23) : va_up (cPC ci d kd an ai al ar mX8_rules mX8_axioms mX8_axiomCount mX8_givens mX8_givenCount mX8_wanted mX8_rows mX8_rowCount mX8_looked mX8_from mX8_needed mX8_broken mX8_places mX8_text mX8_size mX9_kind mX9_a mX9_b mX9_c mX26_rule mX26_instance mX26_premises mX26_count mX26_states mX26_right mX26_size mX10_takes mX10_name mX12_any mX14_kind mX16_kind mX18_first mX19_either) a (.inl (d 5, an a, .inr (.inr (.inr (.inr g))))) = (cPC ci d kd an ai al (va_up ar a g) mX8_rules mX8_axioms mX8_axiomCount mX8_givens mX8_givenCount mX8_wanted mX8_rows mX8_rowCount mX8_looked mX8_from mX8_needed mX8_broken mX8_places mX8_text mX8_size mX9_kind mX9_a mX9_b mX9_c mX26_rule mX26_instance mX26_premises mX26_count mX26_states mX26_right mX26_size mX10_takes mX10_name mX12_any mX14_kind mX16_kind mX18_first mX19_either) := by
  funext b
  by_cases h : b = a
  · subst h
    rw [va_up_self]
    unfold cPC
    rw [hk]
    simp only [va_up_self]
  · rw [va_up_ne _ _ h]
    unfold cPC
    simp only [va_up_ne _ _ h]
theorem cPC_23_n {ci : Nat → Nat} {d : Nat → ClassId} {kd : Nat → Nat} {an : Nat → Nat} {ai : Nat → Nat → Int32} {al : Nat → Nat → Int64} {ar : Nat → Nat → Option Nat} {mX8_rules : Nat → Option Nat} {mX8_axioms : Nat → Option Nat} {mX8_axiomCount : Nat → Int32} {mX8_givens : Nat → Option Nat} {mX8_givenCount : Nat → Int32} {mX8_wanted : Nat → Option Nat} {mX8_rows : Nat → Option Nat} {mX8_rowCount : Nat → Int32} {mX8_looked : Nat → Int32} {mX8_from : Nat → Option Nat} {mX8_needed : Nat → Option Nat} {mX8_broken : Nat → Int32} {mX8_places : Nat → Option Nat} {mX8_text : Nat → Option Nat} {mX8_size : Nat → Int32} {mX9_kind : Nat → Int32} {mX9_a : Nat → Int32} {mX9_b : Nat → Int32} {mX9_c : Nat → Int32} {mX26_rule : Nat → Int32} {mX26_instance : Nat → Int32} {mX26_premises : Nat → Option Nat} {mX26_count : Nat → Int32} {mX26_states : Nat → Option Nat} {mX26_right : Nat → Int32} {mX26_size : Nat → Int32} {mX10_takes : Nat → Int32} {mX10_name : Nat → Option Nat} {mX12_any : Nat → Int32} {mX14_kind : Nat → Int32} {mX16_kind : Nat → Int32} {mX18_first : Nat → Int32} {mX19_either : Nat → Int32} (n q : Nat) : va_up (cPC ci d kd an ai al ar mX8_rules mX8_axioms mX8_axiomCount mX8_givens mX8_givenCount mX8_wanted mX8_rows mX8_rowCount mX8_looked mX8_from mX8_needed mX8_broken mX8_places mX8_text mX8_size mX9_kind mX9_a mX9_b mX9_c mX26_rule mX26_instance mX26_premises mX26_count mX26_states mX26_right mX26_size mX10_takes mX10_name mX12_any mX14_kind mX16_kind mX18_first mX19_either) q (.inl (d 5, n, .inr (.inr (.inr (.inr (fun _ => none)))))) = (cPC ci d (va_up kd q 23) (va_up an q n) ai al (va_up ar q (fun _ => none)) mX8_rules mX8_axioms mX8_axiomCount mX8_givens mX8_givenCount mX8_wanted mX8_rows mX8_rowCount mX8_looked mX8_from mX8_needed mX8_broken mX8_places mX8_text mX8_size mX9_kind mX9_a mX9_b mX9_c mX26_rule mX26_instance mX26_premises mX26_count mX26_states mX26_right mX26_size mX10_takes mX10_name mX12_any mX14_kind mX16_kind mX18_first mX19_either) := by
  funext b
  by_cases h : b = q
  · subst h
    rw [va_up_self]
    unfold cPC
    simp only [va_up_self]
  · rw [va_up_ne _ _ h]
    unfold cPC
    simp only [va_up_ne _ _ h]
