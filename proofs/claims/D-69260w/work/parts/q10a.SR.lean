/-! room SR (printed by tools/zgen2.py) -/
set_option maxRecDepth 100000
def RX45 : String := "KnowHouseModel"
def TX45 : u_T := fun k => match k with
  | 0 => ("KnowHouseModel", "rooms", "[Ljava/lang/String;", true)
  | 1 => ("KnowHouseModel", "calls", "[LKnowHouseModel$Calls;", true)
  | 2 => ("KnowHouseModel", "names", "LKnowHouseModel$CanonNamesModel;", true)
  | 3 => ("KnowHouseModel", "versions", "LKnowHouseModel$VersionTransModel;", true)
  | 4 => ("KnowHouseModel", "values", "LKnowHouseModel$DatatypeValuesModel;", true)
  | 5 => ("KnowHouseModel", "proofs", "LKnowHouseModel$ProofCheckerModel;", true)
  | 6 => ("KnowHouseModel", "rights", "LKnowHouseModel$RightDeskModel;", true)
  | 7 => ("KnowHouseModel", "classes", "LKnowHouseModel$ClassifySortModel;", true)
  | 8 => ("KnowHouseModel", "facets", "LKnowHouseModel$FacetCountsModel;", true)
  | 9 => ("KnowHouseModel", "tables", "LKnowHouseModel$VirtualRewriteModel;", true)
  | 10 => ("KnowHouseModel", "rules", "LKnowHouseModel$RuleEngineModel;", true)
  | 11 => ("KnowHouseModel", "rewrite", "LKnowHouseModel$QlRewriteModel;", true)
  | 12 => ("KnowHouseModel", "disk", "LKnowHouseModel$KnowDiskModel;", true)
  | 13 => ("KnowHouseModel", "tape", "[I", true)
  | 14 => ("KnowHouseModel", "size", "I", false)
  | 15 => ("KnowHouseModel", "begins", "[I", true)
  | 16 => ("KnowHouseModel", "ends", "[I", true)
  | 17 => ("KnowHouseModel", "words", "I", false)
  | 18 => ("KnowHouseModel", "need", "[J", true)
  | 19 => ("KnowHouseModel", "told", "[J", true)
  | 20 => ("KnowHouseModel", "threw", "[Z", true)
  | 21 => ("KnowHouseModel", "done", "I", false)
  | 22 => ("KnowHouseModel", "wrong", "I", false)
  | 23 => ("KnowHouseModel", "throwing", "Z", false)
  | 24 => ("KnowHouseModel", "ledger", "[J", true)
  | _ => ("KnowHouseModel", "entries", "I", false)
def tyX45 : Nat → FieldType := fun k => match k with
  | 0 => .array (.object "java/lang/String")
  | 1 => .array (.object "KnowHouseModel$Calls")
  | 2 => .object "KnowHouseModel$CanonNamesModel"
  | 3 => .object "KnowHouseModel$VersionTransModel"
  | 4 => .object "KnowHouseModel$DatatypeValuesModel"
  | 5 => .object "KnowHouseModel$ProofCheckerModel"
  | 6 => .object "KnowHouseModel$RightDeskModel"
  | 7 => .object "KnowHouseModel$ClassifySortModel"
  | 8 => .object "KnowHouseModel$FacetCountsModel"
  | 9 => .object "KnowHouseModel$VirtualRewriteModel"
  | 10 => .object "KnowHouseModel$RuleEngineModel"
  | 11 => .object "KnowHouseModel$QlRewriteModel"
  | 12 => .object "KnowHouseModel$KnowDiskModel"
  | 13 => .array .int
  | 14 => .int
  | 15 => .array .int
  | 16 => .array .int
  | 17 => .int
  | 18 => .array .long
  | 19 => .array .long
  | 20 => .array .boolean
  | 21 => .int
  | 22 => .int
  | 23 => .boolean
  | 24 => .array .long
  | _ => .int
abbrev wsX450 : List Cond := u_ws RX45 TX45 26
theorem nmX45 : ∀ a, a < 26 → ∀ b, b < 26 → a ≠ b → (TX45 a).2.1 ≠ (TX45 b).2.1 := by decide +kernel
theorem tyX45_ok : ∀ k, k < 26 → parseFieldDescriptor (TX45 k).2.2.1 = some (tyX45 k) := by decide +kernel
abbrev cX45_init : ByteArray := prog_78_method_1_code
def yX45_init : MethodName := ⟨RX45, "<init>", "()V"⟩
theorem dX45_init_0 : decode cX45_init 0 = .ok (.aload_n 0, 1) := by decide +kernel
theorem dX45_init_1 : decode cX45_init 1 = .ok (.invokespecial 3, 3) := by decide +kernel
theorem dX45_init_4 : decode cX45_init 4 = .ok (.aload_n 0, 1) := by decide +kernel
theorem dX45_init_5 : decode cX45_init 5 = .ok (.bipush 12, 2) := by decide +kernel
theorem dX45_init_7 : decode cX45_init 7 = .ok (.anewarray 9, 3) := by decide +kernel
theorem dX45_init_10 : decode cX45_init 10 = .ok (.dup, 1) := by decide +kernel
theorem dX45_init_11 : decode cX45_init 11 = .ok (.iconst 0, 1) := by decide +kernel
theorem dX45_init_12 : decode cX45_init 12 = .ok (.ldc 11, 2) := by decide +kernel
theorem dX45_init_14 : decode cX45_init 14 = .ok (.aastore, 1) := by decide +kernel
theorem dX45_init_15 : decode cX45_init 15 = .ok (.dup, 1) := by decide +kernel
theorem dX45_init_16 : decode cX45_init 16 = .ok (.iconst 1, 1) := by decide +kernel
theorem dX45_init_17 : decode cX45_init 17 = .ok (.ldc 13, 2) := by decide +kernel
theorem dX45_init_19 : decode cX45_init 19 = .ok (.aastore, 1) := by decide +kernel
theorem dX45_init_20 : decode cX45_init 20 = .ok (.dup, 1) := by decide +kernel
theorem dX45_init_21 : decode cX45_init 21 = .ok (.iconst 2, 1) := by decide +kernel
theorem dX45_init_22 : decode cX45_init 22 = .ok (.ldc 15, 2) := by decide +kernel
theorem dX45_init_24 : decode cX45_init 24 = .ok (.aastore, 1) := by decide +kernel
theorem dX45_init_25 : decode cX45_init 25 = .ok (.dup, 1) := by decide +kernel
theorem dX45_init_26 : decode cX45_init 26 = .ok (.iconst 3, 1) := by decide +kernel
theorem dX45_init_27 : decode cX45_init 27 = .ok (.ldc 17, 2) := by decide +kernel
theorem dX45_init_29 : decode cX45_init 29 = .ok (.aastore, 1) := by decide +kernel
theorem dX45_init_30 : decode cX45_init 30 = .ok (.dup, 1) := by decide +kernel
theorem dX45_init_31 : decode cX45_init 31 = .ok (.iconst 4, 1) := by decide +kernel
theorem dX45_init_32 : decode cX45_init 32 = .ok (.ldc 19, 2) := by decide +kernel
theorem dX45_init_34 : decode cX45_init 34 = .ok (.aastore, 1) := by decide +kernel
theorem dX45_init_35 : decode cX45_init 35 = .ok (.dup, 1) := by decide +kernel
theorem dX45_init_36 : decode cX45_init 36 = .ok (.iconst 5, 1) := by decide +kernel
theorem dX45_init_37 : decode cX45_init 37 = .ok (.ldc 21, 2) := by decide +kernel
theorem dX45_init_39 : decode cX45_init 39 = .ok (.aastore, 1) := by decide +kernel
theorem dX45_init_40 : decode cX45_init 40 = .ok (.dup, 1) := by decide +kernel
theorem dX45_init_41 : decode cX45_init 41 = .ok (.bipush 6, 2) := by decide +kernel
theorem dX45_init_43 : decode cX45_init 43 = .ok (.ldc 23, 2) := by decide +kernel
theorem dX45_init_45 : decode cX45_init 45 = .ok (.aastore, 1) := by decide +kernel
theorem dX45_init_46 : decode cX45_init 46 = .ok (.dup, 1) := by decide +kernel
theorem dX45_init_47 : decode cX45_init 47 = .ok (.bipush 7, 2) := by decide +kernel
theorem dX45_init_49 : decode cX45_init 49 = .ok (.ldc 25, 2) := by decide +kernel
theorem dX45_init_51 : decode cX45_init 51 = .ok (.aastore, 1) := by decide +kernel
theorem dX45_init_52 : decode cX45_init 52 = .ok (.dup, 1) := by decide +kernel
theorem dX45_init_53 : decode cX45_init 53 = .ok (.bipush 8, 2) := by decide +kernel
theorem dX45_init_55 : decode cX45_init 55 = .ok (.ldc 27, 2) := by decide +kernel
theorem dX45_init_57 : decode cX45_init 57 = .ok (.aastore, 1) := by decide +kernel
theorem dX45_init_58 : decode cX45_init 58 = .ok (.dup, 1) := by decide +kernel
theorem dX45_init_59 : decode cX45_init 59 = .ok (.bipush 9, 2) := by decide +kernel
theorem dX45_init_61 : decode cX45_init 61 = .ok (.ldc 29, 2) := by decide +kernel
theorem dX45_init_63 : decode cX45_init 63 = .ok (.aastore, 1) := by decide +kernel
theorem dX45_init_64 : decode cX45_init 64 = .ok (.dup, 1) := by decide +kernel
theorem dX45_init_65 : decode cX45_init 65 = .ok (.bipush 10, 2) := by decide +kernel
theorem dX45_init_67 : decode cX45_init 67 = .ok (.ldc 31, 2) := by decide +kernel
theorem dX45_init_69 : decode cX45_init 69 = .ok (.aastore, 1) := by decide +kernel
theorem dX45_init_70 : decode cX45_init 70 = .ok (.dup, 1) := by decide +kernel
theorem dX45_init_71 : decode cX45_init 71 = .ok (.bipush 11, 2) := by decide +kernel
theorem dX45_init_73 : decode cX45_init 73 = .ok (.ldc 33, 2) := by decide +kernel
theorem dX45_init_75 : decode cX45_init 75 = .ok (.aastore, 1) := by decide +kernel
theorem dX45_init_76 : decode cX45_init 76 = .ok (.putfield 35, 3) := by decide +kernel
theorem dX45_init_79 : decode cX45_init 79 = .ok (.aload_n 0, 1) := by decide +kernel
theorem dX45_init_80 : decode cX45_init 80 = .ok (.bipush 12, 2) := by decide +kernel
theorem dX45_init_82 : decode cX45_init 82 = .ok (.anewarray 41, 3) := by decide +kernel
theorem dX45_init_85 : decode cX45_init 85 = .ok (.dup, 1) := by decide +kernel
theorem dX45_init_86 : decode cX45_init 86 = .ok (.iconst 0, 1) := by decide +kernel
theorem dX45_init_87 : decode cX45_init 87 = .ok (.new 41, 3) := by decide +kernel
theorem dX45_init_90 : decode cX45_init 90 = .ok (.dup, 1) := by decide +kernel
theorem dX45_init_91 : decode cX45_init 91 = .ok (.bipush 10, 2) := by decide +kernel
theorem dX45_init_93 : decode cX45_init 93 = .ok (.anewarray 9, 3) := by decide +kernel
theorem dX45_init_96 : decode cX45_init 96 = .ok (.dup, 1) := by decide +kernel
theorem dX45_init_97 : decode cX45_init 97 = .ok (.iconst 0, 1) := by decide +kernel
theorem dX45_init_98 : decode cX45_init 98 = .ok (.ldc 43, 2) := by decide +kernel
theorem dX45_init_100 : decode cX45_init 100 = .ok (.aastore, 1) := by decide +kernel
theorem dX45_init_101 : decode cX45_init 101 = .ok (.dup, 1) := by decide +kernel
theorem dX45_init_102 : decode cX45_init 102 = .ok (.iconst 1, 1) := by decide +kernel
theorem dX45_init_103 : decode cX45_init 103 = .ok (.ldc 45, 2) := by decide +kernel
theorem dX45_init_105 : decode cX45_init 105 = .ok (.aastore, 1) := by decide +kernel
theorem dX45_init_106 : decode cX45_init 106 = .ok (.dup, 1) := by decide +kernel
theorem dX45_init_107 : decode cX45_init 107 = .ok (.iconst 2, 1) := by decide +kernel
theorem dX45_init_108 : decode cX45_init 108 = .ok (.ldc 47, 2) := by decide +kernel
theorem dX45_init_110 : decode cX45_init 110 = .ok (.aastore, 1) := by decide +kernel
theorem dX45_init_111 : decode cX45_init 111 = .ok (.dup, 1) := by decide +kernel
theorem dX45_init_112 : decode cX45_init 112 = .ok (.iconst 3, 1) := by decide +kernel
theorem dX45_init_113 : decode cX45_init 113 = .ok (.ldc 49, 2) := by decide +kernel
theorem dX45_init_115 : decode cX45_init 115 = .ok (.aastore, 1) := by decide +kernel
theorem dX45_init_116 : decode cX45_init 116 = .ok (.dup, 1) := by decide +kernel
theorem dX45_init_117 : decode cX45_init 117 = .ok (.iconst 4, 1) := by decide +kernel
theorem dX45_init_118 : decode cX45_init 118 = .ok (.ldc 51, 2) := by decide +kernel
theorem dX45_init_120 : decode cX45_init 120 = .ok (.aastore, 1) := by decide +kernel
theorem dX45_init_121 : decode cX45_init 121 = .ok (.dup, 1) := by decide +kernel
theorem dX45_init_122 : decode cX45_init 122 = .ok (.iconst 5, 1) := by decide +kernel
theorem dX45_init_123 : decode cX45_init 123 = .ok (.ldc 53, 2) := by decide +kernel
theorem dX45_init_125 : decode cX45_init 125 = .ok (.aastore, 1) := by decide +kernel
theorem dX45_init_126 : decode cX45_init 126 = .ok (.dup, 1) := by decide +kernel
theorem dX45_init_127 : decode cX45_init 127 = .ok (.bipush 6, 2) := by decide +kernel
theorem dX45_init_129 : decode cX45_init 129 = .ok (.ldc 55, 2) := by decide +kernel
theorem dX45_init_131 : decode cX45_init 131 = .ok (.aastore, 1) := by decide +kernel
theorem dX45_init_132 : decode cX45_init 132 = .ok (.dup, 1) := by decide +kernel
theorem dX45_init_133 : decode cX45_init 133 = .ok (.bipush 7, 2) := by decide +kernel
theorem dX45_init_135 : decode cX45_init 135 = .ok (.ldc 57, 2) := by decide +kernel
theorem dX45_init_137 : decode cX45_init 137 = .ok (.aastore, 1) := by decide +kernel
theorem dX45_init_138 : decode cX45_init 138 = .ok (.dup, 1) := by decide +kernel
theorem dX45_init_139 : decode cX45_init 139 = .ok (.bipush 8, 2) := by decide +kernel
theorem dX45_init_141 : decode cX45_init 141 = .ok (.ldc 59, 2) := by decide +kernel
theorem dX45_init_143 : decode cX45_init 143 = .ok (.aastore, 1) := by decide +kernel
theorem dX45_init_144 : decode cX45_init 144 = .ok (.dup, 1) := by decide +kernel
theorem dX45_init_145 : decode cX45_init 145 = .ok (.bipush 9, 2) := by decide +kernel
theorem dX45_init_147 : decode cX45_init 147 = .ok (.ldc 61, 2) := by decide +kernel
theorem dX45_init_149 : decode cX45_init 149 = .ok (.aastore, 1) := by decide +kernel
theorem dX45_init_150 : decode cX45_init 150 = .ok (.invokespecial 63, 3) := by decide +kernel
theorem dX45_init_153 : decode cX45_init 153 = .ok (.aastore, 1) := by decide +kernel
theorem dX45_init_154 : decode cX45_init 154 = .ok (.dup, 1) := by decide +kernel
theorem dX45_init_155 : decode cX45_init 155 = .ok (.iconst 1, 1) := by decide +kernel
theorem dX45_init_156 : decode cX45_init 156 = .ok (.new 41, 3) := by decide +kernel
theorem dX45_init_159 : decode cX45_init 159 = .ok (.dup, 1) := by decide +kernel
theorem dX45_init_160 : decode cX45_init 160 = .ok (.bipush 15, 2) := by decide +kernel
theorem dX45_init_162 : decode cX45_init 162 = .ok (.anewarray 9, 3) := by decide +kernel
theorem dX45_init_165 : decode cX45_init 165 = .ok (.dup, 1) := by decide +kernel
theorem dX45_init_166 : decode cX45_init 166 = .ok (.iconst 0, 1) := by decide +kernel
theorem dX45_init_167 : decode cX45_init 167 = .ok (.ldc 66, 2) := by decide +kernel
theorem dX45_init_169 : decode cX45_init 169 = .ok (.aastore, 1) := by decide +kernel
theorem dX45_init_170 : decode cX45_init 170 = .ok (.dup, 1) := by decide +kernel
theorem dX45_init_171 : decode cX45_init 171 = .ok (.iconst 1, 1) := by decide +kernel
theorem dX45_init_172 : decode cX45_init 172 = .ok (.ldc 68, 2) := by decide +kernel
theorem dX45_init_174 : decode cX45_init 174 = .ok (.aastore, 1) := by decide +kernel
theorem dX45_init_175 : decode cX45_init 175 = .ok (.dup, 1) := by decide +kernel
theorem dX45_init_176 : decode cX45_init 176 = .ok (.iconst 2, 1) := by decide +kernel
theorem dX45_init_177 : decode cX45_init 177 = .ok (.ldc 70, 2) := by decide +kernel
theorem dX45_init_179 : decode cX45_init 179 = .ok (.aastore, 1) := by decide +kernel
theorem dX45_init_180 : decode cX45_init 180 = .ok (.dup, 1) := by decide +kernel
theorem dX45_init_181 : decode cX45_init 181 = .ok (.iconst 3, 1) := by decide +kernel
theorem dX45_init_182 : decode cX45_init 182 = .ok (.ldc 72, 2) := by decide +kernel
theorem dX45_init_184 : decode cX45_init 184 = .ok (.aastore, 1) := by decide +kernel
theorem dX45_init_185 : decode cX45_init 185 = .ok (.dup, 1) := by decide +kernel
theorem dX45_init_186 : decode cX45_init 186 = .ok (.iconst 4, 1) := by decide +kernel
theorem dX45_init_187 : decode cX45_init 187 = .ok (.ldc 74, 2) := by decide +kernel
theorem dX45_init_189 : decode cX45_init 189 = .ok (.aastore, 1) := by decide +kernel
theorem dX45_init_190 : decode cX45_init 190 = .ok (.dup, 1) := by decide +kernel
theorem dX45_init_191 : decode cX45_init 191 = .ok (.iconst 5, 1) := by decide +kernel
theorem dX45_init_192 : decode cX45_init 192 = .ok (.ldc 76, 2) := by decide +kernel
theorem dX45_init_194 : decode cX45_init 194 = .ok (.aastore, 1) := by decide +kernel
theorem dX45_init_195 : decode cX45_init 195 = .ok (.dup, 1) := by decide +kernel
theorem dX45_init_196 : decode cX45_init 196 = .ok (.bipush 6, 2) := by decide +kernel
theorem dX45_init_198 : decode cX45_init 198 = .ok (.ldc 78, 2) := by decide +kernel
theorem dX45_init_200 : decode cX45_init 200 = .ok (.aastore, 1) := by decide +kernel
theorem dX45_init_201 : decode cX45_init 201 = .ok (.dup, 1) := by decide +kernel
theorem dX45_init_202 : decode cX45_init 202 = .ok (.bipush 7, 2) := by decide +kernel
theorem dX45_init_204 : decode cX45_init 204 = .ok (.ldc 80, 2) := by decide +kernel
theorem dX45_init_206 : decode cX45_init 206 = .ok (.aastore, 1) := by decide +kernel
theorem dX45_init_207 : decode cX45_init 207 = .ok (.dup, 1) := by decide +kernel
theorem dX45_init_208 : decode cX45_init 208 = .ok (.bipush 8, 2) := by decide +kernel
theorem dX45_init_210 : decode cX45_init 210 = .ok (.ldc 82, 2) := by decide +kernel
theorem dX45_init_212 : decode cX45_init 212 = .ok (.aastore, 1) := by decide +kernel
theorem dX45_init_213 : decode cX45_init 213 = .ok (.dup, 1) := by decide +kernel
theorem dX45_init_214 : decode cX45_init 214 = .ok (.bipush 9, 2) := by decide +kernel
theorem dX45_init_216 : decode cX45_init 216 = .ok (.ldc 84, 2) := by decide +kernel
theorem dX45_init_218 : decode cX45_init 218 = .ok (.aastore, 1) := by decide +kernel
theorem dX45_init_219 : decode cX45_init 219 = .ok (.dup, 1) := by decide +kernel
theorem dX45_init_220 : decode cX45_init 220 = .ok (.bipush 10, 2) := by decide +kernel
theorem dX45_init_222 : decode cX45_init 222 = .ok (.ldc 86, 2) := by decide +kernel
theorem dX45_init_224 : decode cX45_init 224 = .ok (.aastore, 1) := by decide +kernel
theorem dX45_init_225 : decode cX45_init 225 = .ok (.dup, 1) := by decide +kernel
theorem dX45_init_226 : decode cX45_init 226 = .ok (.bipush 11, 2) := by decide +kernel
theorem dX45_init_228 : decode cX45_init 228 = .ok (.ldc 88, 2) := by decide +kernel
theorem dX45_init_230 : decode cX45_init 230 = .ok (.aastore, 1) := by decide +kernel
theorem dX45_init_231 : decode cX45_init 231 = .ok (.dup, 1) := by decide +kernel
theorem dX45_init_232 : decode cX45_init 232 = .ok (.bipush 12, 2) := by decide +kernel
theorem dX45_init_234 : decode cX45_init 234 = .ok (.ldc 90, 2) := by decide +kernel
theorem dX45_init_236 : decode cX45_init 236 = .ok (.aastore, 1) := by decide +kernel
theorem dX45_init_237 : decode cX45_init 237 = .ok (.dup, 1) := by decide +kernel
theorem dX45_init_238 : decode cX45_init 238 = .ok (.bipush 13, 2) := by decide +kernel
theorem dX45_init_240 : decode cX45_init 240 = .ok (.ldc 92, 2) := by decide +kernel
theorem dX45_init_242 : decode cX45_init 242 = .ok (.aastore, 1) := by decide +kernel
theorem dX45_init_243 : decode cX45_init 243 = .ok (.dup, 1) := by decide +kernel
theorem dX45_init_244 : decode cX45_init 244 = .ok (.bipush 14, 2) := by decide +kernel
theorem dX45_init_246 : decode cX45_init 246 = .ok (.ldc 94, 2) := by decide +kernel
theorem dX45_init_248 : decode cX45_init 248 = .ok (.aastore, 1) := by decide +kernel
theorem dX45_init_249 : decode cX45_init 249 = .ok (.invokespecial 63, 3) := by decide +kernel
theorem dX45_init_252 : decode cX45_init 252 = .ok (.aastore, 1) := by decide +kernel
theorem dX45_init_253 : decode cX45_init 253 = .ok (.dup, 1) := by decide +kernel
theorem dX45_init_254 : decode cX45_init 254 = .ok (.iconst 2, 1) := by decide +kernel
theorem dX45_init_255 : decode cX45_init 255 = .ok (.new 41, 3) := by decide +kernel
theorem dX45_init_258 : decode cX45_init 258 = .ok (.dup, 1) := by decide +kernel
theorem dX45_init_259 : decode cX45_init 259 = .ok (.bipush 18, 2) := by decide +kernel
theorem dX45_init_261 : decode cX45_init 261 = .ok (.anewarray 9, 3) := by decide +kernel
theorem dX45_init_264 : decode cX45_init 264 = .ok (.dup, 1) := by decide +kernel
theorem dX45_init_265 : decode cX45_init 265 = .ok (.iconst 0, 1) := by decide +kernel
theorem dX45_init_266 : decode cX45_init 266 = .ok (.ldc 96, 2) := by decide +kernel
theorem dX45_init_268 : decode cX45_init 268 = .ok (.aastore, 1) := by decide +kernel
theorem dX45_init_269 : decode cX45_init 269 = .ok (.dup, 1) := by decide +kernel
theorem dX45_init_270 : decode cX45_init 270 = .ok (.iconst 1, 1) := by decide +kernel
theorem dX45_init_271 : decode cX45_init 271 = .ok (.ldc 98, 2) := by decide +kernel
theorem dX45_init_273 : decode cX45_init 273 = .ok (.aastore, 1) := by decide +kernel
theorem dX45_init_274 : decode cX45_init 274 = .ok (.dup, 1) := by decide +kernel
theorem dX45_init_275 : decode cX45_init 275 = .ok (.iconst 2, 1) := by decide +kernel
theorem dX45_init_276 : decode cX45_init 276 = .ok (.ldc 100, 2) := by decide +kernel
theorem dX45_init_278 : decode cX45_init 278 = .ok (.aastore, 1) := by decide +kernel
theorem dX45_init_279 : decode cX45_init 279 = .ok (.dup, 1) := by decide +kernel
theorem dX45_init_280 : decode cX45_init 280 = .ok (.iconst 3, 1) := by decide +kernel
theorem dX45_init_281 : decode cX45_init 281 = .ok (.ldc 102, 2) := by decide +kernel
theorem dX45_init_283 : decode cX45_init 283 = .ok (.aastore, 1) := by decide +kernel
theorem dX45_init_284 : decode cX45_init 284 = .ok (.dup, 1) := by decide +kernel
theorem dX45_init_285 : decode cX45_init 285 = .ok (.iconst 4, 1) := by decide +kernel
theorem dX45_init_286 : decode cX45_init 286 = .ok (.ldc 104, 2) := by decide +kernel
theorem dX45_init_288 : decode cX45_init 288 = .ok (.aastore, 1) := by decide +kernel
theorem dX45_init_289 : decode cX45_init 289 = .ok (.dup, 1) := by decide +kernel
theorem dX45_init_290 : decode cX45_init 290 = .ok (.iconst 5, 1) := by decide +kernel
theorem dX45_init_291 : decode cX45_init 291 = .ok (.ldc 106, 2) := by decide +kernel
theorem dX45_init_293 : decode cX45_init 293 = .ok (.aastore, 1) := by decide +kernel
theorem dX45_init_294 : decode cX45_init 294 = .ok (.dup, 1) := by decide +kernel
theorem dX45_init_295 : decode cX45_init 295 = .ok (.bipush 6, 2) := by decide +kernel
theorem dX45_init_297 : decode cX45_init 297 = .ok (.ldc 108, 2) := by decide +kernel
theorem dX45_init_299 : decode cX45_init 299 = .ok (.aastore, 1) := by decide +kernel
theorem dX45_init_300 : decode cX45_init 300 = .ok (.dup, 1) := by decide +kernel
theorem dX45_init_301 : decode cX45_init 301 = .ok (.bipush 7, 2) := by decide +kernel
theorem dX45_init_303 : decode cX45_init 303 = .ok (.ldc 110, 2) := by decide +kernel
theorem dX45_init_305 : decode cX45_init 305 = .ok (.aastore, 1) := by decide +kernel
theorem dX45_init_306 : decode cX45_init 306 = .ok (.dup, 1) := by decide +kernel
theorem dX45_init_307 : decode cX45_init 307 = .ok (.bipush 8, 2) := by decide +kernel
theorem dX45_init_309 : decode cX45_init 309 = .ok (.ldc 112, 2) := by decide +kernel
theorem dX45_init_311 : decode cX45_init 311 = .ok (.aastore, 1) := by decide +kernel
theorem dX45_init_312 : decode cX45_init 312 = .ok (.dup, 1) := by decide +kernel
theorem dX45_init_313 : decode cX45_init 313 = .ok (.bipush 9, 2) := by decide +kernel
theorem dX45_init_315 : decode cX45_init 315 = .ok (.ldc 114, 2) := by decide +kernel
theorem dX45_init_317 : decode cX45_init 317 = .ok (.aastore, 1) := by decide +kernel
theorem dX45_init_318 : decode cX45_init 318 = .ok (.dup, 1) := by decide +kernel
theorem dX45_init_319 : decode cX45_init 319 = .ok (.bipush 10, 2) := by decide +kernel
theorem dX45_init_321 : decode cX45_init 321 = .ok (.ldc 116, 2) := by decide +kernel
theorem dX45_init_323 : decode cX45_init 323 = .ok (.aastore, 1) := by decide +kernel
theorem dX45_init_324 : decode cX45_init 324 = .ok (.dup, 1) := by decide +kernel
theorem dX45_init_325 : decode cX45_init 325 = .ok (.bipush 11, 2) := by decide +kernel
theorem dX45_init_327 : decode cX45_init 327 = .ok (.ldc 118, 2) := by decide +kernel
theorem dX45_init_329 : decode cX45_init 329 = .ok (.aastore, 1) := by decide +kernel
theorem dX45_init_330 : decode cX45_init 330 = .ok (.dup, 1) := by decide +kernel
theorem dX45_init_331 : decode cX45_init 331 = .ok (.bipush 12, 2) := by decide +kernel
theorem dX45_init_333 : decode cX45_init 333 = .ok (.ldc 120, 2) := by decide +kernel
theorem dX45_init_335 : decode cX45_init 335 = .ok (.aastore, 1) := by decide +kernel
theorem dX45_init_336 : decode cX45_init 336 = .ok (.dup, 1) := by decide +kernel
theorem dX45_init_337 : decode cX45_init 337 = .ok (.bipush 13, 2) := by decide +kernel
theorem dX45_init_339 : decode cX45_init 339 = .ok (.ldc 122, 2) := by decide +kernel
theorem dX45_init_341 : decode cX45_init 341 = .ok (.aastore, 1) := by decide +kernel
theorem dX45_init_342 : decode cX45_init 342 = .ok (.dup, 1) := by decide +kernel
theorem dX45_init_343 : decode cX45_init 343 = .ok (.bipush 14, 2) := by decide +kernel
theorem dX45_init_345 : decode cX45_init 345 = .ok (.ldc 124, 2) := by decide +kernel
theorem dX45_init_347 : decode cX45_init 347 = .ok (.aastore, 1) := by decide +kernel
theorem dX45_init_348 : decode cX45_init 348 = .ok (.dup, 1) := by decide +kernel
theorem dX45_init_349 : decode cX45_init 349 = .ok (.bipush 15, 2) := by decide +kernel
theorem dX45_init_351 : decode cX45_init 351 = .ok (.ldc 126, 2) := by decide +kernel
theorem dX45_init_353 : decode cX45_init 353 = .ok (.aastore, 1) := by decide +kernel
theorem dX45_init_354 : decode cX45_init 354 = .ok (.dup, 1) := by decide +kernel
theorem dX45_init_355 : decode cX45_init 355 = .ok (.bipush 16, 2) := by decide +kernel
theorem dX45_init_357 : decode cX45_init 357 = .ok (.ldc 128, 2) := by decide +kernel
theorem dX45_init_359 : decode cX45_init 359 = .ok (.aastore, 1) := by decide +kernel
theorem dX45_init_360 : decode cX45_init 360 = .ok (.dup, 1) := by decide +kernel
theorem dX45_init_361 : decode cX45_init 361 = .ok (.bipush 17, 2) := by decide +kernel
theorem dX45_init_363 : decode cX45_init 363 = .ok (.ldc 130, 2) := by decide +kernel
theorem dX45_init_365 : decode cX45_init 365 = .ok (.aastore, 1) := by decide +kernel
theorem dX45_init_366 : decode cX45_init 366 = .ok (.invokespecial 63, 3) := by decide +kernel
theorem dX45_init_369 : decode cX45_init 369 = .ok (.aastore, 1) := by decide +kernel
theorem dX45_init_370 : decode cX45_init 370 = .ok (.dup, 1) := by decide +kernel
theorem dX45_init_371 : decode cX45_init 371 = .ok (.iconst 3, 1) := by decide +kernel
theorem dX45_init_372 : decode cX45_init 372 = .ok (.new 41, 3) := by decide +kernel
theorem dX45_init_375 : decode cX45_init 375 = .ok (.dup, 1) := by decide +kernel
theorem dX45_init_376 : decode cX45_init 376 = .ok (.bipush 10, 2) := by decide +kernel
theorem dX45_init_378 : decode cX45_init 378 = .ok (.anewarray 9, 3) := by decide +kernel
theorem dX45_init_381 : decode cX45_init 381 = .ok (.dup, 1) := by decide +kernel
theorem dX45_init_382 : decode cX45_init 382 = .ok (.iconst 0, 1) := by decide +kernel
theorem dX45_init_383 : decode cX45_init 383 = .ok (.ldc 132, 2) := by decide +kernel
theorem dX45_init_385 : decode cX45_init 385 = .ok (.aastore, 1) := by decide +kernel
theorem dX45_init_386 : decode cX45_init 386 = .ok (.dup, 1) := by decide +kernel
theorem dX45_init_387 : decode cX45_init 387 = .ok (.iconst 1, 1) := by decide +kernel
theorem dX45_init_388 : decode cX45_init 388 = .ok (.ldc 134, 2) := by decide +kernel
theorem dX45_init_390 : decode cX45_init 390 = .ok (.aastore, 1) := by decide +kernel
theorem dX45_init_391 : decode cX45_init 391 = .ok (.dup, 1) := by decide +kernel
theorem dX45_init_392 : decode cX45_init 392 = .ok (.iconst 2, 1) := by decide +kernel
theorem dX45_init_393 : decode cX45_init 393 = .ok (.ldc 136, 2) := by decide +kernel
theorem dX45_init_395 : decode cX45_init 395 = .ok (.aastore, 1) := by decide +kernel
theorem dX45_init_396 : decode cX45_init 396 = .ok (.dup, 1) := by decide +kernel
theorem dX45_init_397 : decode cX45_init 397 = .ok (.iconst 3, 1) := by decide +kernel
theorem dX45_init_398 : decode cX45_init 398 = .ok (.ldc 138, 2) := by decide +kernel
theorem dX45_init_400 : decode cX45_init 400 = .ok (.aastore, 1) := by decide +kernel
theorem dX45_init_401 : decode cX45_init 401 = .ok (.dup, 1) := by decide +kernel
theorem dX45_init_402 : decode cX45_init 402 = .ok (.iconst 4, 1) := by decide +kernel
theorem dX45_init_403 : decode cX45_init 403 = .ok (.ldc 140, 2) := by decide +kernel
theorem dX45_init_405 : decode cX45_init 405 = .ok (.aastore, 1) := by decide +kernel
theorem dX45_init_406 : decode cX45_init 406 = .ok (.dup, 1) := by decide +kernel
theorem dX45_init_407 : decode cX45_init 407 = .ok (.iconst 5, 1) := by decide +kernel
theorem dX45_init_408 : decode cX45_init 408 = .ok (.ldc 142, 2) := by decide +kernel
theorem dX45_init_410 : decode cX45_init 410 = .ok (.aastore, 1) := by decide +kernel
theorem dX45_init_411 : decode cX45_init 411 = .ok (.dup, 1) := by decide +kernel
theorem dX45_init_412 : decode cX45_init 412 = .ok (.bipush 6, 2) := by decide +kernel
theorem dX45_init_414 : decode cX45_init 414 = .ok (.ldc 144, 2) := by decide +kernel
theorem dX45_init_416 : decode cX45_init 416 = .ok (.aastore, 1) := by decide +kernel
theorem dX45_init_417 : decode cX45_init 417 = .ok (.dup, 1) := by decide +kernel
theorem dX45_init_418 : decode cX45_init 418 = .ok (.bipush 7, 2) := by decide +kernel
theorem dX45_init_420 : decode cX45_init 420 = .ok (.ldc 146, 2) := by decide +kernel
theorem dX45_init_422 : decode cX45_init 422 = .ok (.aastore, 1) := by decide +kernel
theorem dX45_init_423 : decode cX45_init 423 = .ok (.dup, 1) := by decide +kernel
theorem dX45_init_424 : decode cX45_init 424 = .ok (.bipush 8, 2) := by decide +kernel
theorem dX45_init_426 : decode cX45_init 426 = .ok (.ldc 148, 2) := by decide +kernel
theorem dX45_init_428 : decode cX45_init 428 = .ok (.aastore, 1) := by decide +kernel
theorem dX45_init_429 : decode cX45_init 429 = .ok (.dup, 1) := by decide +kernel
theorem dX45_init_430 : decode cX45_init 430 = .ok (.bipush 9, 2) := by decide +kernel
theorem dX45_init_432 : decode cX45_init 432 = .ok (.ldc 150, 2) := by decide +kernel
theorem dX45_init_434 : decode cX45_init 434 = .ok (.aastore, 1) := by decide +kernel
theorem dX45_init_435 : decode cX45_init 435 = .ok (.invokespecial 63, 3) := by decide +kernel
theorem dX45_init_438 : decode cX45_init 438 = .ok (.aastore, 1) := by decide +kernel
theorem dX45_init_439 : decode cX45_init 439 = .ok (.dup, 1) := by decide +kernel
theorem dX45_init_440 : decode cX45_init 440 = .ok (.iconst 4, 1) := by decide +kernel
theorem dX45_init_441 : decode cX45_init 441 = .ok (.new 41, 3) := by decide +kernel
theorem dX45_init_444 : decode cX45_init 444 = .ok (.dup, 1) := by decide +kernel
theorem dX45_init_445 : decode cX45_init 445 = .ok (.bipush 14, 2) := by decide +kernel
theorem dX45_init_447 : decode cX45_init 447 = .ok (.anewarray 9, 3) := by decide +kernel
theorem dX45_init_450 : decode cX45_init 450 = .ok (.dup, 1) := by decide +kernel
theorem dX45_init_451 : decode cX45_init 451 = .ok (.iconst 0, 1) := by decide +kernel
theorem dX45_init_452 : decode cX45_init 452 = .ok (.ldc 152, 2) := by decide +kernel
theorem dX45_init_454 : decode cX45_init 454 = .ok (.aastore, 1) := by decide +kernel
theorem dX45_init_455 : decode cX45_init 455 = .ok (.dup, 1) := by decide +kernel
theorem dX45_init_456 : decode cX45_init 456 = .ok (.iconst 1, 1) := by decide +kernel
theorem dX45_init_457 : decode cX45_init 457 = .ok (.ldc 68, 2) := by decide +kernel
theorem dX45_init_459 : decode cX45_init 459 = .ok (.aastore, 1) := by decide +kernel
theorem dX45_init_460 : decode cX45_init 460 = .ok (.dup, 1) := by decide +kernel
theorem dX45_init_461 : decode cX45_init 461 = .ok (.iconst 2, 1) := by decide +kernel
theorem dX45_init_462 : decode cX45_init 462 = .ok (.ldc 154, 2) := by decide +kernel
theorem dX45_init_464 : decode cX45_init 464 = .ok (.aastore, 1) := by decide +kernel
theorem dX45_init_465 : decode cX45_init 465 = .ok (.dup, 1) := by decide +kernel
theorem dX45_init_466 : decode cX45_init 466 = .ok (.iconst 3, 1) := by decide +kernel
theorem dX45_init_467 : decode cX45_init 467 = .ok (.ldc 156, 2) := by decide +kernel
theorem dX45_init_469 : decode cX45_init 469 = .ok (.aastore, 1) := by decide +kernel
theorem dX45_init_470 : decode cX45_init 470 = .ok (.dup, 1) := by decide +kernel
theorem dX45_init_471 : decode cX45_init 471 = .ok (.iconst 4, 1) := by decide +kernel
theorem dX45_init_472 : decode cX45_init 472 = .ok (.ldc 158, 2) := by decide +kernel
theorem dX45_init_474 : decode cX45_init 474 = .ok (.aastore, 1) := by decide +kernel
theorem dX45_init_475 : decode cX45_init 475 = .ok (.dup, 1) := by decide +kernel
theorem dX45_init_476 : decode cX45_init 476 = .ok (.iconst 5, 1) := by decide +kernel
theorem dX45_init_477 : decode cX45_init 477 = .ok (.ldc 160, 2) := by decide +kernel
theorem dX45_init_479 : decode cX45_init 479 = .ok (.aastore, 1) := by decide +kernel
theorem dX45_init_480 : decode cX45_init 480 = .ok (.dup, 1) := by decide +kernel
theorem dX45_init_481 : decode cX45_init 481 = .ok (.bipush 6, 2) := by decide +kernel
theorem dX45_init_483 : decode cX45_init 483 = .ok (.ldc 162, 2) := by decide +kernel
theorem dX45_init_485 : decode cX45_init 485 = .ok (.aastore, 1) := by decide +kernel
theorem dX45_init_486 : decode cX45_init 486 = .ok (.dup, 1) := by decide +kernel
theorem dX45_init_487 : decode cX45_init 487 = .ok (.bipush 7, 2) := by decide +kernel
theorem dX45_init_489 : decode cX45_init 489 = .ok (.ldc 164, 2) := by decide +kernel
theorem dX45_init_491 : decode cX45_init 491 = .ok (.aastore, 1) := by decide +kernel
theorem dX45_init_492 : decode cX45_init 492 = .ok (.dup, 1) := by decide +kernel
theorem dX45_init_493 : decode cX45_init 493 = .ok (.bipush 8, 2) := by decide +kernel
theorem dX45_init_495 : decode cX45_init 495 = .ok (.ldc 166, 2) := by decide +kernel
theorem dX45_init_497 : decode cX45_init 497 = .ok (.aastore, 1) := by decide +kernel
theorem dX45_init_498 : decode cX45_init 498 = .ok (.dup, 1) := by decide +kernel
theorem dX45_init_499 : decode cX45_init 499 = .ok (.bipush 9, 2) := by decide +kernel
theorem dX45_init_501 : decode cX45_init 501 = .ok (.ldc 168, 2) := by decide +kernel
theorem dX45_init_503 : decode cX45_init 503 = .ok (.aastore, 1) := by decide +kernel
theorem dX45_init_504 : decode cX45_init 504 = .ok (.dup, 1) := by decide +kernel
theorem dX45_init_505 : decode cX45_init 505 = .ok (.bipush 10, 2) := by decide +kernel
theorem dX45_init_507 : decode cX45_init 507 = .ok (.ldc 170, 2) := by decide +kernel
theorem dX45_init_509 : decode cX45_init 509 = .ok (.aastore, 1) := by decide +kernel
theorem dX45_init_510 : decode cX45_init 510 = .ok (.dup, 1) := by decide +kernel
theorem dX45_init_511 : decode cX45_init 511 = .ok (.bipush 11, 2) := by decide +kernel
theorem dX45_init_513 : decode cX45_init 513 = .ok (.ldc 172, 2) := by decide +kernel
theorem dX45_init_515 : decode cX45_init 515 = .ok (.aastore, 1) := by decide +kernel
theorem dX45_init_516 : decode cX45_init 516 = .ok (.dup, 1) := by decide +kernel
theorem dX45_init_517 : decode cX45_init 517 = .ok (.bipush 12, 2) := by decide +kernel
theorem dX45_init_519 : decode cX45_init 519 = .ok (.ldc 174, 2) := by decide +kernel
theorem dX45_init_521 : decode cX45_init 521 = .ok (.aastore, 1) := by decide +kernel
theorem dX45_init_522 : decode cX45_init 522 = .ok (.dup, 1) := by decide +kernel
theorem dX45_init_523 : decode cX45_init 523 = .ok (.bipush 13, 2) := by decide +kernel
theorem dX45_init_525 : decode cX45_init 525 = .ok (.ldc 176, 2) := by decide +kernel
theorem dX45_init_527 : decode cX45_init 527 = .ok (.aastore, 1) := by decide +kernel
theorem dX45_init_528 : decode cX45_init 528 = .ok (.invokespecial 63, 3) := by decide +kernel
theorem dX45_init_531 : decode cX45_init 531 = .ok (.aastore, 1) := by decide +kernel
theorem dX45_init_532 : decode cX45_init 532 = .ok (.dup, 1) := by decide +kernel
theorem dX45_init_533 : decode cX45_init 533 = .ok (.iconst 5, 1) := by decide +kernel
theorem dX45_init_534 : decode cX45_init 534 = .ok (.new 41, 3) := by decide +kernel
theorem dX45_init_537 : decode cX45_init 537 = .ok (.dup, 1) := by decide +kernel
theorem dX45_init_538 : decode cX45_init 538 = .ok (.bipush 16, 2) := by decide +kernel
theorem dX45_init_540 : decode cX45_init 540 = .ok (.anewarray 9, 3) := by decide +kernel
theorem dX45_init_543 : decode cX45_init 543 = .ok (.dup, 1) := by decide +kernel
theorem dX45_init_544 : decode cX45_init 544 = .ok (.iconst 0, 1) := by decide +kernel
theorem dX45_init_545 : decode cX45_init 545 = .ok (.ldc 178, 2) := by decide +kernel
theorem dX45_init_547 : decode cX45_init 547 = .ok (.aastore, 1) := by decide +kernel
theorem dX45_init_548 : decode cX45_init 548 = .ok (.dup, 1) := by decide +kernel
theorem dX45_init_549 : decode cX45_init 549 = .ok (.iconst 1, 1) := by decide +kernel
theorem dX45_init_550 : decode cX45_init 550 = .ok (.ldc 180, 2) := by decide +kernel
theorem dX45_init_552 : decode cX45_init 552 = .ok (.aastore, 1) := by decide +kernel
theorem dX45_init_553 : decode cX45_init 553 = .ok (.dup, 1) := by decide +kernel
theorem dX45_init_554 : decode cX45_init 554 = .ok (.iconst 2, 1) := by decide +kernel
theorem dX45_init_555 : decode cX45_init 555 = .ok (.ldc 182, 2) := by decide +kernel
theorem dX45_init_557 : decode cX45_init 557 = .ok (.aastore, 1) := by decide +kernel
theorem dX45_init_558 : decode cX45_init 558 = .ok (.dup, 1) := by decide +kernel
theorem dX45_init_559 : decode cX45_init 559 = .ok (.iconst 3, 1) := by decide +kernel
theorem dX45_init_560 : decode cX45_init 560 = .ok (.ldc 166, 2) := by decide +kernel
theorem dX45_init_562 : decode cX45_init 562 = .ok (.aastore, 1) := by decide +kernel
theorem dX45_init_563 : decode cX45_init 563 = .ok (.dup, 1) := by decide +kernel
theorem dX45_init_564 : decode cX45_init 564 = .ok (.iconst 4, 1) := by decide +kernel
theorem dX45_init_565 : decode cX45_init 565 = .ok (.ldc 184, 2) := by decide +kernel
theorem dX45_init_567 : decode cX45_init 567 = .ok (.aastore, 1) := by decide +kernel
theorem dX45_init_568 : decode cX45_init 568 = .ok (.dup, 1) := by decide +kernel
theorem dX45_init_569 : decode cX45_init 569 = .ok (.iconst 5, 1) := by decide +kernel
theorem dX45_init_570 : decode cX45_init 570 = .ok (.ldc 186, 2) := by decide +kernel
theorem dX45_init_572 : decode cX45_init 572 = .ok (.aastore, 1) := by decide +kernel
theorem dX45_init_573 : decode cX45_init 573 = .ok (.dup, 1) := by decide +kernel
theorem dX45_init_574 : decode cX45_init 574 = .ok (.bipush 6, 2) := by decide +kernel
theorem dX45_init_576 : decode cX45_init 576 = .ok (.ldc 188, 2) := by decide +kernel
theorem dX45_init_578 : decode cX45_init 578 = .ok (.aastore, 1) := by decide +kernel
theorem dX45_init_579 : decode cX45_init 579 = .ok (.dup, 1) := by decide +kernel
theorem dX45_init_580 : decode cX45_init 580 = .ok (.bipush 7, 2) := by decide +kernel
theorem dX45_init_582 : decode cX45_init 582 = .ok (.ldc 190, 2) := by decide +kernel
theorem dX45_init_584 : decode cX45_init 584 = .ok (.aastore, 1) := by decide +kernel
theorem dX45_init_585 : decode cX45_init 585 = .ok (.dup, 1) := by decide +kernel
theorem dX45_init_586 : decode cX45_init 586 = .ok (.bipush 8, 2) := by decide +kernel
theorem dX45_init_588 : decode cX45_init 588 = .ok (.ldc 192, 2) := by decide +kernel
theorem dX45_init_590 : decode cX45_init 590 = .ok (.aastore, 1) := by decide +kernel
theorem dX45_init_591 : decode cX45_init 591 = .ok (.dup, 1) := by decide +kernel
theorem dX45_init_592 : decode cX45_init 592 = .ok (.bipush 9, 2) := by decide +kernel
theorem dX45_init_594 : decode cX45_init 594 = .ok (.ldc 194, 2) := by decide +kernel
theorem dX45_init_596 : decode cX45_init 596 = .ok (.aastore, 1) := by decide +kernel
theorem dX45_init_597 : decode cX45_init 597 = .ok (.dup, 1) := by decide +kernel
theorem dX45_init_598 : decode cX45_init 598 = .ok (.bipush 10, 2) := by decide +kernel
theorem dX45_init_600 : decode cX45_init 600 = .ok (.ldc 196, 2) := by decide +kernel
theorem dX45_init_602 : decode cX45_init 602 = .ok (.aastore, 1) := by decide +kernel
theorem dX45_init_603 : decode cX45_init 603 = .ok (.dup, 1) := by decide +kernel
theorem dX45_init_604 : decode cX45_init 604 = .ok (.bipush 11, 2) := by decide +kernel
theorem dX45_init_606 : decode cX45_init 606 = .ok (.ldc 198, 2) := by decide +kernel
theorem dX45_init_608 : decode cX45_init 608 = .ok (.aastore, 1) := by decide +kernel
theorem dX45_init_609 : decode cX45_init 609 = .ok (.dup, 1) := by decide +kernel
theorem dX45_init_610 : decode cX45_init 610 = .ok (.bipush 12, 2) := by decide +kernel
theorem dX45_init_612 : decode cX45_init 612 = .ok (.ldc 200, 2) := by decide +kernel
theorem dX45_init_614 : decode cX45_init 614 = .ok (.aastore, 1) := by decide +kernel
theorem dX45_init_615 : decode cX45_init 615 = .ok (.dup, 1) := by decide +kernel
theorem dX45_init_616 : decode cX45_init 616 = .ok (.bipush 13, 2) := by decide +kernel
theorem dX45_init_618 : decode cX45_init 618 = .ok (.ldc 202, 2) := by decide +kernel
theorem dX45_init_620 : decode cX45_init 620 = .ok (.aastore, 1) := by decide +kernel
theorem dX45_init_621 : decode cX45_init 621 = .ok (.dup, 1) := by decide +kernel
theorem dX45_init_622 : decode cX45_init 622 = .ok (.bipush 14, 2) := by decide +kernel
theorem dX45_init_624 : decode cX45_init 624 = .ok (.ldc 204, 2) := by decide +kernel
theorem dX45_init_626 : decode cX45_init 626 = .ok (.aastore, 1) := by decide +kernel
theorem dX45_init_627 : decode cX45_init 627 = .ok (.dup, 1) := by decide +kernel
theorem dX45_init_628 : decode cX45_init 628 = .ok (.bipush 15, 2) := by decide +kernel
theorem dX45_init_630 : decode cX45_init 630 = .ok (.ldc 206, 2) := by decide +kernel
theorem dX45_init_632 : decode cX45_init 632 = .ok (.aastore, 1) := by decide +kernel
theorem dX45_init_633 : decode cX45_init 633 = .ok (.invokespecial 63, 3) := by decide +kernel
theorem dX45_init_636 : decode cX45_init 636 = .ok (.aastore, 1) := by decide +kernel
theorem dX45_init_637 : decode cX45_init 637 = .ok (.dup, 1) := by decide +kernel
theorem dX45_init_638 : decode cX45_init 638 = .ok (.bipush 6, 2) := by decide +kernel
theorem dX45_init_640 : decode cX45_init 640 = .ok (.new 41, 3) := by decide +kernel
theorem dX45_init_643 : decode cX45_init 643 = .ok (.dup, 1) := by decide +kernel
theorem dX45_init_644 : decode cX45_init 644 = .ok (.bipush 17, 2) := by decide +kernel
theorem dX45_init_646 : decode cX45_init 646 = .ok (.anewarray 9, 3) := by decide +kernel
theorem dX45_init_649 : decode cX45_init 649 = .ok (.dup, 1) := by decide +kernel
theorem dX45_init_650 : decode cX45_init 650 = .ok (.iconst 0, 1) := by decide +kernel
theorem dX45_init_651 : decode cX45_init 651 = .ok (.ldc 208, 2) := by decide +kernel
theorem dX45_init_653 : decode cX45_init 653 = .ok (.aastore, 1) := by decide +kernel
theorem dX45_init_654 : decode cX45_init 654 = .ok (.dup, 1) := by decide +kernel
theorem dX45_init_655 : decode cX45_init 655 = .ok (.iconst 1, 1) := by decide +kernel
theorem dX45_init_656 : decode cX45_init 656 = .ok (.ldc 210, 2) := by decide +kernel
theorem dX45_init_658 : decode cX45_init 658 = .ok (.aastore, 1) := by decide +kernel
theorem dX45_init_659 : decode cX45_init 659 = .ok (.dup, 1) := by decide +kernel
theorem dX45_init_660 : decode cX45_init 660 = .ok (.iconst 2, 1) := by decide +kernel
theorem dX45_init_661 : decode cX45_init 661 = .ok (.ldc 152, 2) := by decide +kernel
theorem dX45_init_663 : decode cX45_init 663 = .ok (.aastore, 1) := by decide +kernel
theorem dX45_init_664 : decode cX45_init 664 = .ok (.dup, 1) := by decide +kernel
theorem dX45_init_665 : decode cX45_init 665 = .ok (.iconst 3, 1) := by decide +kernel
theorem dX45_init_666 : decode cX45_init 666 = .ok (.ldc 212, 2) := by decide +kernel
theorem dX45_init_668 : decode cX45_init 668 = .ok (.aastore, 1) := by decide +kernel
theorem dX45_init_669 : decode cX45_init 669 = .ok (.dup, 1) := by decide +kernel
theorem dX45_init_670 : decode cX45_init 670 = .ok (.iconst 4, 1) := by decide +kernel
theorem dX45_init_671 : decode cX45_init 671 = .ok (.ldc 214, 2) := by decide +kernel
theorem dX45_init_673 : decode cX45_init 673 = .ok (.aastore, 1) := by decide +kernel
theorem dX45_init_674 : decode cX45_init 674 = .ok (.dup, 1) := by decide +kernel
theorem dX45_init_675 : decode cX45_init 675 = .ok (.iconst 5, 1) := by decide +kernel
theorem dX45_init_676 : decode cX45_init 676 = .ok (.ldc 216, 2) := by decide +kernel
theorem dX45_init_678 : decode cX45_init 678 = .ok (.aastore, 1) := by decide +kernel
theorem dX45_init_679 : decode cX45_init 679 = .ok (.dup, 1) := by decide +kernel
theorem dX45_init_680 : decode cX45_init 680 = .ok (.bipush 6, 2) := by decide +kernel
theorem dX45_init_682 : decode cX45_init 682 = .ok (.ldc 188, 2) := by decide +kernel
theorem dX45_init_684 : decode cX45_init 684 = .ok (.aastore, 1) := by decide +kernel
theorem dX45_init_685 : decode cX45_init 685 = .ok (.dup, 1) := by decide +kernel
theorem dX45_init_686 : decode cX45_init 686 = .ok (.bipush 7, 2) := by decide +kernel
theorem dX45_init_688 : decode cX45_init 688 = .ok (.ldc 218, 2) := by decide +kernel
theorem dX45_init_690 : decode cX45_init 690 = .ok (.aastore, 1) := by decide +kernel
theorem dX45_init_691 : decode cX45_init 691 = .ok (.dup, 1) := by decide +kernel
theorem dX45_init_692 : decode cX45_init 692 = .ok (.bipush 8, 2) := by decide +kernel
theorem dX45_init_694 : decode cX45_init 694 = .ok (.ldc 220, 2) := by decide +kernel
theorem dX45_init_696 : decode cX45_init 696 = .ok (.aastore, 1) := by decide +kernel
theorem dX45_init_697 : decode cX45_init 697 = .ok (.dup, 1) := by decide +kernel
theorem dX45_init_698 : decode cX45_init 698 = .ok (.bipush 9, 2) := by decide +kernel
theorem dX45_init_700 : decode cX45_init 700 = .ok (.ldc 222, 2) := by decide +kernel
theorem dX45_init_702 : decode cX45_init 702 = .ok (.aastore, 1) := by decide +kernel
theorem dX45_init_703 : decode cX45_init 703 = .ok (.dup, 1) := by decide +kernel
theorem dX45_init_704 : decode cX45_init 704 = .ok (.bipush 10, 2) := by decide +kernel
theorem dX45_init_706 : decode cX45_init 706 = .ok (.ldc 224, 2) := by decide +kernel
theorem dX45_init_708 : decode cX45_init 708 = .ok (.aastore, 1) := by decide +kernel
theorem dX45_init_709 : decode cX45_init 709 = .ok (.dup, 1) := by decide +kernel
theorem dX45_init_710 : decode cX45_init 710 = .ok (.bipush 11, 2) := by decide +kernel
theorem dX45_init_712 : decode cX45_init 712 = .ok (.ldc 226, 2) := by decide +kernel
theorem dX45_init_714 : decode cX45_init 714 = .ok (.aastore, 1) := by decide +kernel
theorem dX45_init_715 : decode cX45_init 715 = .ok (.dup, 1) := by decide +kernel
theorem dX45_init_716 : decode cX45_init 716 = .ok (.bipush 12, 2) := by decide +kernel
theorem dX45_init_718 : decode cX45_init 718 = .ok (.ldc 228, 2) := by decide +kernel
theorem dX45_init_720 : decode cX45_init 720 = .ok (.aastore, 1) := by decide +kernel
theorem dX45_init_721 : decode cX45_init 721 = .ok (.dup, 1) := by decide +kernel
theorem dX45_init_722 : decode cX45_init 722 = .ok (.bipush 13, 2) := by decide +kernel
theorem dX45_init_724 : decode cX45_init 724 = .ok (.ldc 230, 2) := by decide +kernel
theorem dX45_init_726 : decode cX45_init 726 = .ok (.aastore, 1) := by decide +kernel
theorem dX45_init_727 : decode cX45_init 727 = .ok (.dup, 1) := by decide +kernel
theorem dX45_init_728 : decode cX45_init 728 = .ok (.bipush 14, 2) := by decide +kernel
theorem dX45_init_730 : decode cX45_init 730 = .ok (.ldc 232, 2) := by decide +kernel
theorem dX45_init_732 : decode cX45_init 732 = .ok (.aastore, 1) := by decide +kernel
theorem dX45_init_733 : decode cX45_init 733 = .ok (.dup, 1) := by decide +kernel
theorem dX45_init_734 : decode cX45_init 734 = .ok (.bipush 15, 2) := by decide +kernel
theorem dX45_init_736 : decode cX45_init 736 = .ok (.ldc 234, 2) := by decide +kernel
theorem dX45_init_738 : decode cX45_init 738 = .ok (.aastore, 1) := by decide +kernel
theorem dX45_init_739 : decode cX45_init 739 = .ok (.dup, 1) := by decide +kernel
theorem dX45_init_740 : decode cX45_init 740 = .ok (.bipush 16, 2) := by decide +kernel
theorem dX45_init_742 : decode cX45_init 742 = .ok (.ldc 236, 2) := by decide +kernel
theorem dX45_init_744 : decode cX45_init 744 = .ok (.aastore, 1) := by decide +kernel
theorem dX45_init_745 : decode cX45_init 745 = .ok (.invokespecial 63, 3) := by decide +kernel
theorem dX45_init_748 : decode cX45_init 748 = .ok (.aastore, 1) := by decide +kernel
theorem dX45_init_749 : decode cX45_init 749 = .ok (.dup, 1) := by decide +kernel
theorem dX45_init_750 : decode cX45_init 750 = .ok (.bipush 7, 2) := by decide +kernel
theorem dX45_init_752 : decode cX45_init 752 = .ok (.new 41, 3) := by decide +kernel
theorem dX45_init_755 : decode cX45_init 755 = .ok (.dup, 1) := by decide +kernel
theorem dX45_init_756 : decode cX45_init 756 = .ok (.bipush 12, 2) := by decide +kernel
theorem dX45_init_758 : decode cX45_init 758 = .ok (.anewarray 9, 3) := by decide +kernel
theorem dX45_init_761 : decode cX45_init 761 = .ok (.dup, 1) := by decide +kernel
theorem dX45_init_762 : decode cX45_init 762 = .ok (.iconst 0, 1) := by decide +kernel
theorem dX45_init_763 : decode cX45_init 763 = .ok (.ldc 154, 2) := by decide +kernel
theorem dX45_init_765 : decode cX45_init 765 = .ok (.aastore, 1) := by decide +kernel
theorem dX45_init_766 : decode cX45_init 766 = .ok (.dup, 1) := by decide +kernel
theorem dX45_init_767 : decode cX45_init 767 = .ok (.iconst 1, 1) := by decide +kernel
theorem dX45_init_768 : decode cX45_init 768 = .ok (.ldc 70, 2) := by decide +kernel
theorem dX45_init_770 : decode cX45_init 770 = .ok (.aastore, 1) := by decide +kernel
theorem dX45_init_771 : decode cX45_init 771 = .ok (.dup, 1) := by decide +kernel
theorem dX45_init_772 : decode cX45_init 772 = .ok (.iconst 2, 1) := by decide +kernel
theorem dX45_init_773 : decode cX45_init 773 = .ok (.ldc 238, 2) := by decide +kernel
theorem dX45_init_775 : decode cX45_init 775 = .ok (.aastore, 1) := by decide +kernel
theorem dX45_init_776 : decode cX45_init 776 = .ok (.dup, 1) := by decide +kernel
theorem dX45_init_777 : decode cX45_init 777 = .ok (.iconst 3, 1) := by decide +kernel
theorem dX45_init_778 : decode cX45_init 778 = .ok (.ldc 240, 2) := by decide +kernel
theorem dX45_init_780 : decode cX45_init 780 = .ok (.aastore, 1) := by decide +kernel
theorem dX45_init_781 : decode cX45_init 781 = .ok (.dup, 1) := by decide +kernel
theorem dX45_init_782 : decode cX45_init 782 = .ok (.iconst 4, 1) := by decide +kernel
theorem dX45_init_783 : decode cX45_init 783 = .ok (.ldc 242, 2) := by decide +kernel
theorem dX45_init_785 : decode cX45_init 785 = .ok (.aastore, 1) := by decide +kernel
theorem dX45_init_786 : decode cX45_init 786 = .ok (.dup, 1) := by decide +kernel
theorem dX45_init_787 : decode cX45_init 787 = .ok (.iconst 5, 1) := by decide +kernel
theorem dX45_init_788 : decode cX45_init 788 = .ok (.ldc 244, 2) := by decide +kernel
theorem dX45_init_790 : decode cX45_init 790 = .ok (.aastore, 1) := by decide +kernel
theorem dX45_init_791 : decode cX45_init 791 = .ok (.dup, 1) := by decide +kernel
theorem dX45_init_792 : decode cX45_init 792 = .ok (.bipush 6, 2) := by decide +kernel
theorem dX45_init_794 : decode cX45_init 794 = .ok (.ldc 246, 2) := by decide +kernel
theorem dX45_init_796 : decode cX45_init 796 = .ok (.aastore, 1) := by decide +kernel
theorem dX45_init_797 : decode cX45_init 797 = .ok (.dup, 1) := by decide +kernel
theorem dX45_init_798 : decode cX45_init 798 = .ok (.bipush 7, 2) := by decide +kernel
theorem dX45_init_800 : decode cX45_init 800 = .ok (.ldc 248, 2) := by decide +kernel
theorem dX45_init_802 : decode cX45_init 802 = .ok (.aastore, 1) := by decide +kernel
theorem dX45_init_803 : decode cX45_init 803 = .ok (.dup, 1) := by decide +kernel
theorem dX45_init_804 : decode cX45_init 804 = .ok (.bipush 8, 2) := by decide +kernel
theorem dX45_init_806 : decode cX45_init 806 = .ok (.ldc 250, 2) := by decide +kernel
theorem dX45_init_808 : decode cX45_init 808 = .ok (.aastore, 1) := by decide +kernel
theorem dX45_init_809 : decode cX45_init 809 = .ok (.dup, 1) := by decide +kernel
theorem dX45_init_810 : decode cX45_init 810 = .ok (.bipush 9, 2) := by decide +kernel
theorem dX45_init_812 : decode cX45_init 812 = .ok (.ldc 252, 2) := by decide +kernel
theorem dX45_init_814 : decode cX45_init 814 = .ok (.aastore, 1) := by decide +kernel
theorem dX45_init_815 : decode cX45_init 815 = .ok (.dup, 1) := by decide +kernel
theorem dX45_init_816 : decode cX45_init 816 = .ok (.bipush 10, 2) := by decide +kernel
theorem dX45_init_818 : decode cX45_init 818 = .ok (.ldc 254, 2) := by decide +kernel
theorem dX45_init_820 : decode cX45_init 820 = .ok (.aastore, 1) := by decide +kernel
theorem dX45_init_821 : decode cX45_init 821 = .ok (.dup, 1) := by decide +kernel
theorem dX45_init_822 : decode cX45_init 822 = .ok (.bipush 11, 2) := by decide +kernel
theorem dX45_init_824 : decode cX45_init 824 = .ok (.ldc 118, 2) := by decide +kernel
theorem dX45_init_826 : decode cX45_init 826 = .ok (.aastore, 1) := by decide +kernel
theorem dX45_init_827 : decode cX45_init 827 = .ok (.invokespecial 63, 3) := by decide +kernel
theorem dX45_init_830 : decode cX45_init 830 = .ok (.aastore, 1) := by decide +kernel
theorem dX45_init_831 : decode cX45_init 831 = .ok (.dup, 1) := by decide +kernel
theorem dX45_init_832 : decode cX45_init 832 = .ok (.bipush 8, 2) := by decide +kernel
theorem dX45_init_834 : decode cX45_init 834 = .ok (.new 41, 3) := by decide +kernel
theorem dX45_init_837 : decode cX45_init 837 = .ok (.dup, 1) := by decide +kernel
theorem dX45_init_838 : decode cX45_init 838 = .ok (.bipush 14, 2) := by decide +kernel
theorem dX45_init_840 : decode cX45_init 840 = .ok (.anewarray 9, 3) := by decide +kernel
theorem dX45_init_843 : decode cX45_init 843 = .ok (.dup, 1) := by decide +kernel
theorem dX45_init_844 : decode cX45_init 844 = .ok (.iconst 0, 1) := by decide +kernel
theorem dX45_init_845 : decode cX45_init 845 = .ok (.ldc_w 256, 3) := by decide +kernel
theorem dX45_init_848 : decode cX45_init 848 = .ok (.aastore, 1) := by decide +kernel
theorem dX45_init_849 : decode cX45_init 849 = .ok (.dup, 1) := by decide +kernel
theorem dX45_init_850 : decode cX45_init 850 = .ok (.iconst 1, 1) := by decide +kernel
theorem dX45_init_851 : decode cX45_init 851 = .ok (.ldc_w 258, 3) := by decide +kernel
theorem dX45_init_854 : decode cX45_init 854 = .ok (.aastore, 1) := by decide +kernel
theorem dX45_init_855 : decode cX45_init 855 = .ok (.dup, 1) := by decide +kernel
theorem dX45_init_856 : decode cX45_init 856 = .ok (.iconst 2, 1) := by decide +kernel
theorem dX45_init_857 : decode cX45_init 857 = .ok (.ldc_w 260, 3) := by decide +kernel
theorem dX45_init_860 : decode cX45_init 860 = .ok (.aastore, 1) := by decide +kernel
theorem dX45_init_861 : decode cX45_init 861 = .ok (.dup, 1) := by decide +kernel
theorem dX45_init_862 : decode cX45_init 862 = .ok (.iconst 3, 1) := by decide +kernel
theorem dX45_init_863 : decode cX45_init 863 = .ok (.ldc_w 262, 3) := by decide +kernel
theorem dX45_init_866 : decode cX45_init 866 = .ok (.aastore, 1) := by decide +kernel
theorem dX45_init_867 : decode cX45_init 867 = .ok (.dup, 1) := by decide +kernel
theorem dX45_init_868 : decode cX45_init 868 = .ok (.iconst 4, 1) := by decide +kernel
theorem dX45_init_869 : decode cX45_init 869 = .ok (.ldc 92, 2) := by decide +kernel
theorem dX45_init_871 : decode cX45_init 871 = .ok (.aastore, 1) := by decide +kernel
theorem dX45_init_872 : decode cX45_init 872 = .ok (.dup, 1) := by decide +kernel
theorem dX45_init_873 : decode cX45_init 873 = .ok (.iconst 5, 1) := by decide +kernel
theorem dX45_init_874 : decode cX45_init 874 = .ok (.ldc_w 264, 3) := by decide +kernel
theorem dX45_init_877 : decode cX45_init 877 = .ok (.aastore, 1) := by decide +kernel
theorem dX45_init_878 : decode cX45_init 878 = .ok (.dup, 1) := by decide +kernel
theorem dX45_init_879 : decode cX45_init 879 = .ok (.bipush 6, 2) := by decide +kernel
theorem dX45_init_881 : decode cX45_init 881 = .ok (.ldc_w 266, 3) := by decide +kernel
theorem dX45_init_884 : decode cX45_init 884 = .ok (.aastore, 1) := by decide +kernel
theorem dX45_init_885 : decode cX45_init 885 = .ok (.dup, 1) := by decide +kernel
theorem dX45_init_886 : decode cX45_init 886 = .ok (.bipush 7, 2) := by decide +kernel
theorem dX45_init_888 : decode cX45_init 888 = .ok (.ldc_w 268, 3) := by decide +kernel
theorem dX45_init_891 : decode cX45_init 891 = .ok (.aastore, 1) := by decide +kernel
theorem dX45_init_892 : decode cX45_init 892 = .ok (.dup, 1) := by decide +kernel
theorem dX45_init_893 : decode cX45_init 893 = .ok (.bipush 8, 2) := by decide +kernel
theorem dX45_init_895 : decode cX45_init 895 = .ok (.ldc_w 270, 3) := by decide +kernel
theorem dX45_init_898 : decode cX45_init 898 = .ok (.aastore, 1) := by decide +kernel
theorem dX45_init_899 : decode cX45_init 899 = .ok (.dup, 1) := by decide +kernel
theorem dX45_init_900 : decode cX45_init 900 = .ok (.bipush 9, 2) := by decide +kernel
theorem dX45_init_902 : decode cX45_init 902 = .ok (.ldc_w 272, 3) := by decide +kernel
theorem dX45_init_905 : decode cX45_init 905 = .ok (.aastore, 1) := by decide +kernel
theorem dX45_init_906 : decode cX45_init 906 = .ok (.dup, 1) := by decide +kernel
theorem dX45_init_907 : decode cX45_init 907 = .ok (.bipush 10, 2) := by decide +kernel
theorem dX45_init_909 : decode cX45_init 909 = .ok (.ldc_w 274, 3) := by decide +kernel
theorem dX45_init_912 : decode cX45_init 912 = .ok (.aastore, 1) := by decide +kernel
theorem dX45_init_913 : decode cX45_init 913 = .ok (.dup, 1) := by decide +kernel
theorem dX45_init_914 : decode cX45_init 914 = .ok (.bipush 11, 2) := by decide +kernel
theorem dX45_init_916 : decode cX45_init 916 = .ok (.ldc 218, 2) := by decide +kernel
theorem dX45_init_918 : decode cX45_init 918 = .ok (.aastore, 1) := by decide +kernel
theorem dX45_init_919 : decode cX45_init 919 = .ok (.dup, 1) := by decide +kernel
theorem dX45_init_920 : decode cX45_init 920 = .ok (.bipush 12, 2) := by decide +kernel
theorem dX45_init_922 : decode cX45_init 922 = .ok (.ldc_w 276, 3) := by decide +kernel
theorem dX45_init_925 : decode cX45_init 925 = .ok (.aastore, 1) := by decide +kernel
theorem dX45_init_926 : decode cX45_init 926 = .ok (.dup, 1) := by decide +kernel
theorem dX45_init_927 : decode cX45_init 927 = .ok (.bipush 13, 2) := by decide +kernel
theorem dX45_init_929 : decode cX45_init 929 = .ok (.ldc_w 278, 3) := by decide +kernel
theorem dX45_init_932 : decode cX45_init 932 = .ok (.aastore, 1) := by decide +kernel
theorem dX45_init_933 : decode cX45_init 933 = .ok (.invokespecial 63, 3) := by decide +kernel
theorem dX45_init_936 : decode cX45_init 936 = .ok (.aastore, 1) := by decide +kernel
theorem dX45_init_937 : decode cX45_init 937 = .ok (.dup, 1) := by decide +kernel
theorem dX45_init_938 : decode cX45_init 938 = .ok (.bipush 9, 2) := by decide +kernel
theorem dX45_init_940 : decode cX45_init 940 = .ok (.new 41, 3) := by decide +kernel
theorem dX45_init_943 : decode cX45_init 943 = .ok (.dup, 1) := by decide +kernel
theorem dX45_init_944 : decode cX45_init 944 = .ok (.bipush 15, 2) := by decide +kernel
theorem dX45_init_946 : decode cX45_init 946 = .ok (.anewarray 9, 3) := by decide +kernel
theorem dX45_init_949 : decode cX45_init 949 = .ok (.dup, 1) := by decide +kernel
theorem dX45_init_950 : decode cX45_init 950 = .ok (.iconst 0, 1) := by decide +kernel
theorem dX45_init_951 : decode cX45_init 951 = .ok (.ldc_w 280, 3) := by decide +kernel
theorem dX45_init_954 : decode cX45_init 954 = .ok (.aastore, 1) := by decide +kernel
theorem dX45_init_955 : decode cX45_init 955 = .ok (.dup, 1) := by decide +kernel
theorem dX45_init_956 : decode cX45_init 956 = .ok (.iconst 1, 1) := by decide +kernel
theorem dX45_init_957 : decode cX45_init 957 = .ok (.ldc_w 282, 3) := by decide +kernel
theorem dX45_init_960 : decode cX45_init 960 = .ok (.aastore, 1) := by decide +kernel
theorem dX45_init_961 : decode cX45_init 961 = .ok (.dup, 1) := by decide +kernel
theorem dX45_init_962 : decode cX45_init 962 = .ok (.iconst 2, 1) := by decide +kernel
theorem dX45_init_963 : decode cX45_init 963 = .ok (.ldc_w 284, 3) := by decide +kernel
theorem dX45_init_966 : decode cX45_init 966 = .ok (.aastore, 1) := by decide +kernel
theorem dX45_init_967 : decode cX45_init 967 = .ok (.dup, 1) := by decide +kernel
theorem dX45_init_968 : decode cX45_init 968 = .ok (.iconst 3, 1) := by decide +kernel
theorem dX45_init_969 : decode cX45_init 969 = .ok (.ldc_w 286, 3) := by decide +kernel
theorem dX45_init_972 : decode cX45_init 972 = .ok (.aastore, 1) := by decide +kernel
theorem dX45_init_973 : decode cX45_init 973 = .ok (.dup, 1) := by decide +kernel
theorem dX45_init_974 : decode cX45_init 974 = .ok (.iconst 4, 1) := by decide +kernel
theorem dX45_init_975 : decode cX45_init 975 = .ok (.ldc_w 288, 3) := by decide +kernel
theorem dX45_init_978 : decode cX45_init 978 = .ok (.aastore, 1) := by decide +kernel
theorem dX45_init_979 : decode cX45_init 979 = .ok (.dup, 1) := by decide +kernel
theorem dX45_init_980 : decode cX45_init 980 = .ok (.iconst 5, 1) := by decide +kernel
theorem dX45_init_981 : decode cX45_init 981 = .ok (.ldc_w 290, 3) := by decide +kernel
theorem dX45_init_984 : decode cX45_init 984 = .ok (.aastore, 1) := by decide +kernel
theorem dX45_init_985 : decode cX45_init 985 = .ok (.dup, 1) := by decide +kernel
theorem dX45_init_986 : decode cX45_init 986 = .ok (.bipush 6, 2) := by decide +kernel
theorem dX45_init_988 : decode cX45_init 988 = .ok (.ldc 166, 2) := by decide +kernel
theorem dX45_init_990 : decode cX45_init 990 = .ok (.aastore, 1) := by decide +kernel
theorem dX45_init_991 : decode cX45_init 991 = .ok (.dup, 1) := by decide +kernel
theorem dX45_init_992 : decode cX45_init 992 = .ok (.bipush 7, 2) := by decide +kernel
theorem dX45_init_994 : decode cX45_init 994 = .ok (.ldc_w 292, 3) := by decide +kernel
theorem dX45_init_997 : decode cX45_init 997 = .ok (.aastore, 1) := by decide +kernel
theorem dX45_init_998 : decode cX45_init 998 = .ok (.dup, 1) := by decide +kernel
theorem dX45_init_999 : decode cX45_init 999 = .ok (.bipush 8, 2) := by decide +kernel
theorem dX45_init_1001 : decode cX45_init 1001 = .ok (.ldc 218, 2) := by decide +kernel
theorem dX45_init_1003 : decode cX45_init 1003 = .ok (.aastore, 1) := by decide +kernel
theorem dX45_init_1004 : decode cX45_init 1004 = .ok (.dup, 1) := by decide +kernel
theorem dX45_init_1005 : decode cX45_init 1005 = .ok (.bipush 9, 2) := by decide +kernel
theorem dX45_init_1007 : decode cX45_init 1007 = .ok (.ldc_w 294, 3) := by decide +kernel
theorem dX45_init_1010 : decode cX45_init 1010 = .ok (.aastore, 1) := by decide +kernel
theorem dX45_init_1011 : decode cX45_init 1011 = .ok (.dup, 1) := by decide +kernel
theorem dX45_init_1012 : decode cX45_init 1012 = .ok (.bipush 10, 2) := by decide +kernel
theorem dX45_init_1014 : decode cX45_init 1014 = .ok (.ldc_w 296, 3) := by decide +kernel
theorem dX45_init_1017 : decode cX45_init 1017 = .ok (.aastore, 1) := by decide +kernel
theorem dX45_init_1018 : decode cX45_init 1018 = .ok (.dup, 1) := by decide +kernel
theorem dX45_init_1019 : decode cX45_init 1019 = .ok (.bipush 11, 2) := by decide +kernel
theorem dX45_init_1021 : decode cX45_init 1021 = .ok (.ldc_w 298, 3) := by decide +kernel
theorem dX45_init_1024 : decode cX45_init 1024 = .ok (.aastore, 1) := by decide +kernel
theorem dX45_init_1025 : decode cX45_init 1025 = .ok (.dup, 1) := by decide +kernel
theorem dX45_init_1026 : decode cX45_init 1026 = .ok (.bipush 12, 2) := by decide +kernel
theorem dX45_init_1028 : decode cX45_init 1028 = .ok (.ldc_w 300, 3) := by decide +kernel
theorem dX45_init_1031 : decode cX45_init 1031 = .ok (.aastore, 1) := by decide +kernel
theorem dX45_init_1032 : decode cX45_init 1032 = .ok (.dup, 1) := by decide +kernel
theorem dX45_init_1033 : decode cX45_init 1033 = .ok (.bipush 13, 2) := by decide +kernel
theorem dX45_init_1035 : decode cX45_init 1035 = .ok (.ldc_w 302, 3) := by decide +kernel
theorem dX45_init_1038 : decode cX45_init 1038 = .ok (.aastore, 1) := by decide +kernel
theorem dX45_init_1039 : decode cX45_init 1039 = .ok (.dup, 1) := by decide +kernel
theorem dX45_init_1040 : decode cX45_init 1040 = .ok (.bipush 14, 2) := by decide +kernel
theorem dX45_init_1042 : decode cX45_init 1042 = .ok (.ldc_w 304, 3) := by decide +kernel
theorem dX45_init_1045 : decode cX45_init 1045 = .ok (.aastore, 1) := by decide +kernel
theorem dX45_init_1046 : decode cX45_init 1046 = .ok (.invokespecial 63, 3) := by decide +kernel
theorem dX45_init_1049 : decode cX45_init 1049 = .ok (.aastore, 1) := by decide +kernel
theorem dX45_init_1050 : decode cX45_init 1050 = .ok (.dup, 1) := by decide +kernel
theorem dX45_init_1051 : decode cX45_init 1051 = .ok (.bipush 10, 2) := by decide +kernel
theorem dX45_init_1053 : decode cX45_init 1053 = .ok (.new 41, 3) := by decide +kernel
theorem dX45_init_1056 : decode cX45_init 1056 = .ok (.dup, 1) := by decide +kernel
theorem dX45_init_1057 : decode cX45_init 1057 = .ok (.bipush 13, 2) := by decide +kernel
theorem dX45_init_1059 : decode cX45_init 1059 = .ok (.anewarray 9, 3) := by decide +kernel
theorem dX45_init_1062 : decode cX45_init 1062 = .ok (.dup, 1) := by decide +kernel
theorem dX45_init_1063 : decode cX45_init 1063 = .ok (.iconst 0, 1) := by decide +kernel
theorem dX45_init_1064 : decode cX45_init 1064 = .ok (.ldc 152, 2) := by decide +kernel
theorem dX45_init_1066 : decode cX45_init 1066 = .ok (.aastore, 1) := by decide +kernel
theorem dX45_init_1067 : decode cX45_init 1067 = .ok (.dup, 1) := by decide +kernel
theorem dX45_init_1068 : decode cX45_init 1068 = .ok (.iconst 1, 1) := by decide +kernel
theorem dX45_init_1069 : decode cX45_init 1069 = .ok (.ldc_w 306, 3) := by decide +kernel
theorem dX45_init_1072 : decode cX45_init 1072 = .ok (.aastore, 1) := by decide +kernel
theorem dX45_init_1073 : decode cX45_init 1073 = .ok (.dup, 1) := by decide +kernel
theorem dX45_init_1074 : decode cX45_init 1074 = .ok (.iconst 2, 1) := by decide +kernel
theorem dX45_init_1075 : decode cX45_init 1075 = .ok (.ldc_w 308, 3) := by decide +kernel
theorem dX45_init_1078 : decode cX45_init 1078 = .ok (.aastore, 1) := by decide +kernel
theorem dX45_init_1079 : decode cX45_init 1079 = .ok (.dup, 1) := by decide +kernel
theorem dX45_init_1080 : decode cX45_init 1080 = .ok (.iconst 3, 1) := by decide +kernel
theorem dX45_init_1081 : decode cX45_init 1081 = .ok (.ldc_w 310, 3) := by decide +kernel
theorem dX45_init_1084 : decode cX45_init 1084 = .ok (.aastore, 1) := by decide +kernel
theorem dX45_init_1085 : decode cX45_init 1085 = .ok (.dup, 1) := by decide +kernel
theorem dX45_init_1086 : decode cX45_init 1086 = .ok (.iconst 4, 1) := by decide +kernel
theorem dX45_init_1087 : decode cX45_init 1087 = .ok (.ldc_w 312, 3) := by decide +kernel
theorem dX45_init_1090 : decode cX45_init 1090 = .ok (.aastore, 1) := by decide +kernel
theorem dX45_init_1091 : decode cX45_init 1091 = .ok (.dup, 1) := by decide +kernel
theorem dX45_init_1092 : decode cX45_init 1092 = .ok (.iconst 5, 1) := by decide +kernel
theorem dX45_init_1093 : decode cX45_init 1093 = .ok (.ldc_w 314, 3) := by decide +kernel
theorem dX45_init_1096 : decode cX45_init 1096 = .ok (.aastore, 1) := by decide +kernel
theorem dX45_init_1097 : decode cX45_init 1097 = .ok (.dup, 1) := by decide +kernel
theorem dX45_init_1098 : decode cX45_init 1098 = .ok (.bipush 6, 2) := by decide +kernel
theorem dX45_init_1100 : decode cX45_init 1100 = .ok (.ldc_w 316, 3) := by decide +kernel
theorem dX45_init_1103 : decode cX45_init 1103 = .ok (.aastore, 1) := by decide +kernel
theorem dX45_init_1104 : decode cX45_init 1104 = .ok (.dup, 1) := by decide +kernel
theorem dX45_init_1105 : decode cX45_init 1105 = .ok (.bipush 7, 2) := by decide +kernel
theorem dX45_init_1107 : decode cX45_init 1107 = .ok (.ldc_w 318, 3) := by decide +kernel
theorem dX45_init_1110 : decode cX45_init 1110 = .ok (.aastore, 1) := by decide +kernel
theorem dX45_init_1111 : decode cX45_init 1111 = .ok (.dup, 1) := by decide +kernel
theorem dX45_init_1112 : decode cX45_init 1112 = .ok (.bipush 8, 2) := by decide +kernel
theorem dX45_init_1114 : decode cX45_init 1114 = .ok (.ldc_w 320, 3) := by decide +kernel
theorem dX45_init_1117 : decode cX45_init 1117 = .ok (.aastore, 1) := by decide +kernel
theorem dX45_init_1118 : decode cX45_init 1118 = .ok (.dup, 1) := by decide +kernel
theorem dX45_init_1119 : decode cX45_init 1119 = .ok (.bipush 9, 2) := by decide +kernel
theorem dX45_init_1121 : decode cX45_init 1121 = .ok (.ldc_w 322, 3) := by decide +kernel
theorem dX45_init_1124 : decode cX45_init 1124 = .ok (.aastore, 1) := by decide +kernel
theorem dX45_init_1125 : decode cX45_init 1125 = .ok (.dup, 1) := by decide +kernel
theorem dX45_init_1126 : decode cX45_init 1126 = .ok (.bipush 10, 2) := by decide +kernel
theorem dX45_init_1128 : decode cX45_init 1128 = .ok (.ldc 160, 2) := by decide +kernel
theorem dX45_init_1130 : decode cX45_init 1130 = .ok (.aastore, 1) := by decide +kernel
theorem dX45_init_1131 : decode cX45_init 1131 = .ok (.dup, 1) := by decide +kernel
theorem dX45_init_1132 : decode cX45_init 1132 = .ok (.bipush 11, 2) := by decide +kernel
theorem dX45_init_1134 : decode cX45_init 1134 = .ok (.ldc 236, 2) := by decide +kernel
theorem dX45_init_1136 : decode cX45_init 1136 = .ok (.aastore, 1) := by decide +kernel
theorem dX45_init_1137 : decode cX45_init 1137 = .ok (.dup, 1) := by decide +kernel
theorem dX45_init_1138 : decode cX45_init 1138 = .ok (.bipush 12, 2) := by decide +kernel
theorem dX45_init_1140 : decode cX45_init 1140 = .ok (.ldc_w 268, 3) := by decide +kernel
theorem dX45_init_1143 : decode cX45_init 1143 = .ok (.aastore, 1) := by decide +kernel
theorem dX45_init_1144 : decode cX45_init 1144 = .ok (.invokespecial 63, 3) := by decide +kernel
theorem dX45_init_1147 : decode cX45_init 1147 = .ok (.aastore, 1) := by decide +kernel
theorem dX45_init_1148 : decode cX45_init 1148 = .ok (.dup, 1) := by decide +kernel
theorem dX45_init_1149 : decode cX45_init 1149 = .ok (.bipush 11, 2) := by decide +kernel
theorem dX45_init_1151 : decode cX45_init 1151 = .ok (.new 41, 3) := by decide +kernel
theorem dX45_init_1154 : decode cX45_init 1154 = .ok (.dup, 1) := by decide +kernel
theorem dX45_init_1155 : decode cX45_init 1155 = .ok (.bipush 11, 2) := by decide +kernel
theorem dX45_init_1157 : decode cX45_init 1157 = .ok (.anewarray 9, 3) := by decide +kernel
theorem dX45_init_1160 : decode cX45_init 1160 = .ok (.dup, 1) := by decide +kernel
theorem dX45_init_1161 : decode cX45_init 1161 = .ok (.iconst 0, 1) := by decide +kernel
theorem dX45_init_1162 : decode cX45_init 1162 = .ok (.ldc_w 324, 3) := by decide +kernel
theorem dX45_init_1165 : decode cX45_init 1165 = .ok (.aastore, 1) := by decide +kernel
theorem dX45_init_1166 : decode cX45_init 1166 = .ok (.dup, 1) := by decide +kernel
theorem dX45_init_1167 : decode cX45_init 1167 = .ok (.iconst 1, 1) := by decide +kernel
theorem dX45_init_1168 : decode cX45_init 1168 = .ok (.ldc 108, 2) := by decide +kernel
theorem dX45_init_1170 : decode cX45_init 1170 = .ok (.aastore, 1) := by decide +kernel
theorem dX45_init_1171 : decode cX45_init 1171 = .ok (.dup, 1) := by decide +kernel
theorem dX45_init_1172 : decode cX45_init 1172 = .ok (.iconst 2, 1) := by decide +kernel
theorem dX45_init_1173 : decode cX45_init 1173 = .ok (.ldc_w 326, 3) := by decide +kernel
theorem dX45_init_1176 : decode cX45_init 1176 = .ok (.aastore, 1) := by decide +kernel
theorem dX45_init_1177 : decode cX45_init 1177 = .ok (.dup, 1) := by decide +kernel
theorem dX45_init_1178 : decode cX45_init 1178 = .ok (.iconst 3, 1) := by decide +kernel
theorem dX45_init_1179 : decode cX45_init 1179 = .ok (.ldc_w 328, 3) := by decide +kernel
theorem dX45_init_1182 : decode cX45_init 1182 = .ok (.aastore, 1) := by decide +kernel
theorem dX45_init_1183 : decode cX45_init 1183 = .ok (.dup, 1) := by decide +kernel
theorem dX45_init_1184 : decode cX45_init 1184 = .ok (.iconst 4, 1) := by decide +kernel
theorem dX45_init_1185 : decode cX45_init 1185 = .ok (.ldc_w 330, 3) := by decide +kernel
theorem dX45_init_1188 : decode cX45_init 1188 = .ok (.aastore, 1) := by decide +kernel
theorem dX45_init_1189 : decode cX45_init 1189 = .ok (.dup, 1) := by decide +kernel
theorem dX45_init_1190 : decode cX45_init 1190 = .ok (.iconst 5, 1) := by decide +kernel
theorem dX45_init_1191 : decode cX45_init 1191 = .ok (.ldc_w 332, 3) := by decide +kernel
theorem dX45_init_1194 : decode cX45_init 1194 = .ok (.aastore, 1) := by decide +kernel
theorem dX45_init_1195 : decode cX45_init 1195 = .ok (.dup, 1) := by decide +kernel
theorem dX45_init_1196 : decode cX45_init 1196 = .ok (.bipush 6, 2) := by decide +kernel
theorem dX45_init_1198 : decode cX45_init 1198 = .ok (.ldc_w 334, 3) := by decide +kernel
theorem dX45_init_1201 : decode cX45_init 1201 = .ok (.aastore, 1) := by decide +kernel
theorem dX45_init_1202 : decode cX45_init 1202 = .ok (.dup, 1) := by decide +kernel
theorem dX45_init_1203 : decode cX45_init 1203 = .ok (.bipush 7, 2) := by decide +kernel
theorem dX45_init_1205 : decode cX45_init 1205 = .ok (.ldc_w 336, 3) := by decide +kernel
theorem dX45_init_1208 : decode cX45_init 1208 = .ok (.aastore, 1) := by decide +kernel
theorem dX45_init_1209 : decode cX45_init 1209 = .ok (.dup, 1) := by decide +kernel
theorem dX45_init_1210 : decode cX45_init 1210 = .ok (.bipush 8, 2) := by decide +kernel
theorem dX45_init_1212 : decode cX45_init 1212 = .ok (.ldc 166, 2) := by decide +kernel
theorem dX45_init_1214 : decode cX45_init 1214 = .ok (.aastore, 1) := by decide +kernel
theorem dX45_init_1215 : decode cX45_init 1215 = .ok (.dup, 1) := by decide +kernel
theorem dX45_init_1216 : decode cX45_init 1216 = .ok (.bipush 9, 2) := by decide +kernel
theorem dX45_init_1218 : decode cX45_init 1218 = .ok (.ldc_w 338, 3) := by decide +kernel
theorem dX45_init_1221 : decode cX45_init 1221 = .ok (.aastore, 1) := by decide +kernel
theorem dX45_init_1222 : decode cX45_init 1222 = .ok (.dup, 1) := by decide +kernel
theorem dX45_init_1223 : decode cX45_init 1223 = .ok (.bipush 10, 2) := by decide +kernel
theorem dX45_init_1225 : decode cX45_init 1225 = .ok (.ldc_w 340, 3) := by decide +kernel
theorem dX45_init_1228 : decode cX45_init 1228 = .ok (.aastore, 1) := by decide +kernel
theorem dX45_init_1229 : decode cX45_init 1229 = .ok (.invokespecial 63, 3) := by decide +kernel
theorem dX45_init_1232 : decode cX45_init 1232 = .ok (.aastore, 1) := by decide +kernel
theorem dX45_init_1233 : decode cX45_init 1233 = .ok (.putfield 342, 3) := by decide +kernel
theorem dX45_init_1236 : decode cX45_init 1236 = .ok (.aload_n 0, 1) := by decide +kernel
theorem dX45_init_1237 : decode cX45_init 1237 = .ok (.new 346, 3) := by decide +kernel
theorem dX45_init_1240 : decode cX45_init 1240 = .ok (.dup, 1) := by decide +kernel
theorem dX45_init_1241 : decode cX45_init 1241 = .ok (.invokespecial 348, 3) := by decide +kernel
theorem dX45_init_1244 : decode cX45_init 1244 = .ok (.putfield 349, 3) := by decide +kernel
theorem dX45_init_1247 : decode cX45_init 1247 = .ok (.aload_n 0, 1) := by decide +kernel
theorem dX45_init_1248 : decode cX45_init 1248 = .ok (.new 352, 3) := by decide +kernel
theorem dX45_init_1251 : decode cX45_init 1251 = .ok (.dup, 1) := by decide +kernel
theorem dX45_init_1252 : decode cX45_init 1252 = .ok (.invokespecial 354, 3) := by decide +kernel
theorem dX45_init_1255 : decode cX45_init 1255 = .ok (.putfield 355, 3) := by decide +kernel
theorem dX45_init_1258 : decode cX45_init 1258 = .ok (.aload_n 0, 1) := by decide +kernel
theorem dX45_init_1259 : decode cX45_init 1259 = .ok (.new 358, 3) := by decide +kernel
theorem dX45_init_1262 : decode cX45_init 1262 = .ok (.dup, 1) := by decide +kernel
theorem dX45_init_1263 : decode cX45_init 1263 = .ok (.invokespecial 360, 3) := by decide +kernel
theorem dX45_init_1266 : decode cX45_init 1266 = .ok (.putfield 361, 3) := by decide +kernel
theorem dX45_init_1269 : decode cX45_init 1269 = .ok (.aload_n 0, 1) := by decide +kernel
theorem dX45_init_1270 : decode cX45_init 1270 = .ok (.new 364, 3) := by decide +kernel
theorem dX45_init_1273 : decode cX45_init 1273 = .ok (.dup, 1) := by decide +kernel
theorem dX45_init_1274 : decode cX45_init 1274 = .ok (.invokespecial 366, 3) := by decide +kernel
theorem dX45_init_1277 : decode cX45_init 1277 = .ok (.putfield 367, 3) := by decide +kernel
theorem dX45_init_1280 : decode cX45_init 1280 = .ok (.aload_n 0, 1) := by decide +kernel
theorem dX45_init_1281 : decode cX45_init 1281 = .ok (.new 370, 3) := by decide +kernel
theorem dX45_init_1284 : decode cX45_init 1284 = .ok (.dup, 1) := by decide +kernel
theorem dX45_init_1285 : decode cX45_init 1285 = .ok (.invokespecial 372, 3) := by decide +kernel
theorem dX45_init_1288 : decode cX45_init 1288 = .ok (.putfield 373, 3) := by decide +kernel
theorem dX45_init_1291 : decode cX45_init 1291 = .ok (.aload_n 0, 1) := by decide +kernel
theorem dX45_init_1292 : decode cX45_init 1292 = .ok (.new 376, 3) := by decide +kernel
theorem dX45_init_1295 : decode cX45_init 1295 = .ok (.dup, 1) := by decide +kernel
theorem dX45_init_1296 : decode cX45_init 1296 = .ok (.invokespecial 378, 3) := by decide +kernel
theorem dX45_init_1299 : decode cX45_init 1299 = .ok (.putfield 379, 3) := by decide +kernel
theorem dX45_init_1302 : decode cX45_init 1302 = .ok (.aload_n 0, 1) := by decide +kernel
theorem dX45_init_1303 : decode cX45_init 1303 = .ok (.new 382, 3) := by decide +kernel
theorem dX45_init_1306 : decode cX45_init 1306 = .ok (.dup, 1) := by decide +kernel
theorem dX45_init_1307 : decode cX45_init 1307 = .ok (.invokespecial 384, 3) := by decide +kernel
theorem dX45_init_1310 : decode cX45_init 1310 = .ok (.putfield 385, 3) := by decide +kernel
theorem dX45_init_1313 : decode cX45_init 1313 = .ok (.aload_n 0, 1) := by decide +kernel
theorem dX45_init_1314 : decode cX45_init 1314 = .ok (.new 388, 3) := by decide +kernel
theorem dX45_init_1317 : decode cX45_init 1317 = .ok (.dup, 1) := by decide +kernel
theorem dX45_init_1318 : decode cX45_init 1318 = .ok (.invokespecial 390, 3) := by decide +kernel
theorem dX45_init_1321 : decode cX45_init 1321 = .ok (.putfield 391, 3) := by decide +kernel
theorem dX45_init_1324 : decode cX45_init 1324 = .ok (.aload_n 0, 1) := by decide +kernel
theorem dX45_init_1325 : decode cX45_init 1325 = .ok (.new 394, 3) := by decide +kernel
theorem dX45_init_1328 : decode cX45_init 1328 = .ok (.dup, 1) := by decide +kernel
theorem dX45_init_1329 : decode cX45_init 1329 = .ok (.invokespecial 396, 3) := by decide +kernel
theorem dX45_init_1332 : decode cX45_init 1332 = .ok (.putfield 397, 3) := by decide +kernel
theorem dX45_init_1335 : decode cX45_init 1335 = .ok (.aload_n 0, 1) := by decide +kernel
theorem dX45_init_1336 : decode cX45_init 1336 = .ok (.new 400, 3) := by decide +kernel
theorem dX45_init_1339 : decode cX45_init 1339 = .ok (.dup, 1) := by decide +kernel
theorem dX45_init_1340 : decode cX45_init 1340 = .ok (.invokespecial 402, 3) := by decide +kernel
theorem dX45_init_1343 : decode cX45_init 1343 = .ok (.putfield 403, 3) := by decide +kernel
theorem dX45_init_1346 : decode cX45_init 1346 = .ok (.aload_n 0, 1) := by decide +kernel
theorem dX45_init_1347 : decode cX45_init 1347 = .ok (.new 406, 3) := by decide +kernel
theorem dX45_init_1350 : decode cX45_init 1350 = .ok (.dup, 1) := by decide +kernel
theorem dX45_init_1351 : decode cX45_init 1351 = .ok (.bipush 40, 2) := by decide +kernel
theorem dX45_init_1353 : decode cX45_init 1353 = .ok (.invokespecial 408, 3) := by decide +kernel
theorem dX45_init_1356 : decode cX45_init 1356 = .ok (.putfield 411, 3) := by decide +kernel
theorem dX45_init_1359 : decode cX45_init 1359 = .ok (.aload_n 0, 1) := by decide +kernel
theorem dX45_init_1360 : decode cX45_init 1360 = .ok (.sipush 8000, 3) := by decide +kernel
theorem dX45_init_1363 : decode cX45_init 1363 = .ok (.newarray .int, 2) := by decide +kernel
theorem dX45_init_1365 : decode cX45_init 1365 = .ok (.putfield 414, 3) := by decide +kernel
theorem dX45_init_1368 : decode cX45_init 1368 = .ok (.aload_n 0, 1) := by decide +kernel
theorem dX45_init_1369 : decode cX45_init 1369 = .ok (.sipush 4001, 3) := by decide +kernel
theorem dX45_init_1372 : decode cX45_init 1372 = .ok (.newarray .int, 2) := by decide +kernel
theorem dX45_init_1374 : decode cX45_init 1374 = .ok (.putfield 418, 3) := by decide +kernel
theorem dX45_init_1377 : decode cX45_init 1377 = .ok (.aload_n 0, 1) := by decide +kernel
theorem dX45_init_1378 : decode cX45_init 1378 = .ok (.sipush 4001, 3) := by decide +kernel
theorem dX45_init_1381 : decode cX45_init 1381 = .ok (.newarray .int, 2) := by decide +kernel
theorem dX45_init_1383 : decode cX45_init 1383 = .ok (.putfield 421, 3) := by decide +kernel
theorem dX45_init_1386 : decode cX45_init 1386 = .ok (.aload_n 0, 1) := by decide +kernel
theorem dX45_init_1387 : decode cX45_init 1387 = .ok (.bipush 8, 2) := by decide +kernel
theorem dX45_init_1389 : decode cX45_init 1389 = .ok (.newarray .long, 2) := by decide +kernel
theorem dX45_init_1391 : decode cX45_init 1391 = .ok (.putfield 424, 3) := by decide +kernel
theorem dX45_init_1394 : decode cX45_init 1394 = .ok (.aload_n 0, 1) := by decide +kernel
theorem dX45_init_1395 : decode cX45_init 1395 = .ok (.sipush 1000, 3) := by decide +kernel
theorem dX45_init_1398 : decode cX45_init 1398 = .ok (.newarray .long, 2) := by decide +kernel
theorem dX45_init_1400 : decode cX45_init 1400 = .ok (.putfield 428, 3) := by decide +kernel
theorem dX45_init_1403 : decode cX45_init 1403 = .ok (.aload_n 0, 1) := by decide +kernel
theorem dX45_init_1404 : decode cX45_init 1404 = .ok (.sipush 1000, 3) := by decide +kernel
theorem dX45_init_1407 : decode cX45_init 1407 = .ok (.newarray .boolean, 2) := by decide +kernel
theorem dX45_init_1409 : decode cX45_init 1409 = .ok (.putfield 431, 3) := by decide +kernel
theorem dX45_init_1412 : decode cX45_init 1412 = .ok (.aload_n 0, 1) := by decide +kernel
theorem dX45_init_1413 : decode cX45_init 1413 = .ok (.iconst (-1), 1) := by decide +kernel
theorem dX45_init_1414 : decode cX45_init 1414 = .ok (.putfield 435, 3) := by decide +kernel
theorem dX45_init_1417 : decode cX45_init 1417 = .ok (.aload_n 0, 1) := by decide +kernel
theorem dX45_init_1418 : decode cX45_init 1418 = .ok (.sipush 1200, 3) := by decide +kernel
theorem dX45_init_1421 : decode cX45_init 1421 = .ok (.newarray .long, 2) := by decide +kernel
theorem dX45_init_1423 : decode cX45_init 1423 = .ok (.putfield 439, 3) := by decide +kernel
theorem dX45_init_1426 : decode cX45_init 1426 = .ok (.return_, 1) := by decide +kernel
abbrev cX45_type : ByteArray := prog_78_method_3_code
def yX45_type : MethodName := ⟨RX45, "type", "(JI)I"⟩
theorem dX45_type_0 : decode cX45_type 0 = .ok (.iload_n 3, 1) := by decide +kernel
theorem dX45_type_1 : decode cX45_type 1 = .ok (.iconst 1, 1) := by decide +kernel
theorem dX45_type_2 : decode cX45_type 2 = .ok (.if_icmp .lt 21, 3) := by decide +kernel
theorem dX45_type_5 : decode cX45_type 5 = .ok (.iload_n 3, 1) := by decide +kernel
theorem dX45_type_6 : decode cX45_type 6 = .ok (.bipush 8, 2) := by decide +kernel
theorem dX45_type_8 : decode cX45_type 8 = .ok (.if_icmp .gt 15, 3) := by decide +kernel
theorem dX45_type_11 : decode cX45_type 11 = .ok (.aload_n 0, 1) := by decide +kernel
theorem dX45_type_12 : decode cX45_type 12 = .ok (.getfield 442, 3) := by decide +kernel
theorem dX45_type_15 : decode cX45_type 15 = .ok (.iload_n 3, 1) := by decide +kernel
theorem dX45_type_16 : decode cX45_type 16 = .ok (.iadd, 1) := by decide +kernel
theorem dX45_type_17 : decode cX45_type 17 = .ok (.sipush 8000, 3) := by decide +kernel
theorem dX45_type_20 : decode cX45_type 20 = .ok (.if_icmp .le 5, 3) := by decide +kernel
theorem dX45_type_23 : decode cX45_type 23 = .ok (.iconst (-1), 1) := by decide +kernel
theorem dX45_type_24 : decode cX45_type 24 = .ok (.ireturn, 1) := by decide +kernel
theorem dX45_type_25 : decode cX45_type 25 = .ok (.iload_n 3, 1) := by decide +kernel
theorem dX45_type_26 : decode cX45_type 26 = .ok (.iconst 1, 1) := by decide +kernel
theorem dX45_type_27 : decode cX45_type 27 = .ok (.isub, 1) := by decide +kernel
theorem dX45_type_28 : decode cX45_type 28 = .ok (.istore 4, 2) := by decide +kernel
theorem dX45_type_30 : decode cX45_type 30 = .ok (.iload 4, 2) := by decide +kernel
theorem dX45_type_32 : decode cX45_type 32 = .ok (.ifCond .lt 40, 3) := by decide +kernel
theorem dX45_type_35 : decode cX45_type 35 = .ok (.aload_n 0, 1) := by decide +kernel
theorem dX45_type_36 : decode cX45_type 36 = .ok (.getfield 414, 3) := by decide +kernel
theorem dX45_type_39 : decode cX45_type 39 = .ok (.aload_n 0, 1) := by decide +kernel
theorem dX45_type_40 : decode cX45_type 40 = .ok (.getfield 442, 3) := by decide +kernel
theorem dX45_type_43 : decode cX45_type 43 = .ok (.lload_n 1, 1) := by decide +kernel
theorem dX45_type_44 : decode cX45_type 44 = .ok (.bipush 8, 2) := by decide +kernel
theorem dX45_type_46 : decode cX45_type 46 = .ok (.iload 4, 2) := by decide +kernel
theorem dX45_type_48 : decode cX45_type 48 = .ok (.imul, 1) := by decide +kernel
theorem dX45_type_49 : decode cX45_type 49 = .ok (.lshr, 1) := by decide +kernel
theorem dX45_type_50 : decode cX45_type 50 = .ok (.ldc2_w 445, 3) := by decide +kernel
theorem dX45_type_53 : decode cX45_type 53 = .ok (.land, 1) := by decide +kernel
theorem dX45_type_54 : decode cX45_type 54 = .ok (.l2i, 1) := by decide +kernel
theorem dX45_type_55 : decode cX45_type 55 = .ok (.iastore, 1) := by decide +kernel
theorem dX45_type_56 : decode cX45_type 56 = .ok (.aload_n 0, 1) := by decide +kernel
theorem dX45_type_57 : decode cX45_type 57 = .ok (.dup, 1) := by decide +kernel
theorem dX45_type_58 : decode cX45_type 58 = .ok (.getfield 442, 3) := by decide +kernel
theorem dX45_type_61 : decode cX45_type 61 = .ok (.iconst 1, 1) := by decide +kernel
theorem dX45_type_62 : decode cX45_type 62 = .ok (.iadd, 1) := by decide +kernel
theorem dX45_type_63 : decode cX45_type 63 = .ok (.putfield 442, 3) := by decide +kernel
theorem dX45_type_66 : decode cX45_type 66 = .ok (.iinc 4 (-1), 3) := by decide +kernel
theorem dX45_type_69 : decode cX45_type 69 = .ok (.goto (-39), 3) := by decide +kernel
theorem dX45_type_72 : decode cX45_type 72 = .ok (.aload_n 0, 1) := by decide +kernel
theorem dX45_type_73 : decode cX45_type 73 = .ok (.getfield 442, 3) := by decide +kernel
theorem dX45_type_76 : decode cX45_type 76 = .ok (.ireturn, 1) := by decide +kernel
abbrev cX45_run : ByteArray := prog_78_method_10_code
def yX45_run : MethodName := ⟨RX45, "run", "()I"⟩
abbrev cX45_cutWords : ByteArray := prog_78_method_4_code
def yX45_cutWords : MethodName := ⟨RX45, "cutWords", "(II)V"⟩
theorem dX45_cutWords_0 : decode cX45_cutWords 0 = .ok (.aload_n 0, 1) := by decide +kernel
theorem dX45_cutWords_1 : decode cX45_cutWords 1 = .ok (.iconst 0, 1) := by decide +kernel
theorem dX45_cutWords_2 : decode cX45_cutWords 2 = .ok (.putfield 447, 3) := by decide +kernel
theorem dX45_cutWords_5 : decode cX45_cutWords 5 = .ok (.iload_n 1, 1) := by decide +kernel
theorem dX45_cutWords_6 : decode cX45_cutWords 6 = .ok (.istore_n 3, 1) := by decide +kernel
theorem dX45_cutWords_7 : decode cX45_cutWords 7 = .ok (.iload_n 3, 1) := by decide +kernel
theorem dX45_cutWords_8 : decode cX45_cutWords 8 = .ok (.iload_n 2, 1) := by decide +kernel
theorem dX45_cutWords_9 : decode cX45_cutWords 9 = .ok (.if_icmp .ge 75, 3) := by decide +kernel
theorem dX45_cutWords_12 : decode cX45_cutWords 12 = .ok (.aload_n 0, 1) := by decide +kernel
theorem dX45_cutWords_13 : decode cX45_cutWords 13 = .ok (.getfield 414, 3) := by decide +kernel
theorem dX45_cutWords_16 : decode cX45_cutWords 16 = .ok (.iload_n 3, 1) := by decide +kernel
theorem dX45_cutWords_17 : decode cX45_cutWords 17 = .ok (.iaload, 1) := by decide +kernel
theorem dX45_cutWords_18 : decode cX45_cutWords 18 = .ok (.bipush 32, 2) := by decide +kernel
theorem dX45_cutWords_20 : decode cX45_cutWords 20 = .ok (.if_icmp .ne 9, 3) := by decide +kernel
theorem dX45_cutWords_23 : decode cX45_cutWords 23 = .ok (.iinc 3 1, 3) := by decide +kernel
theorem dX45_cutWords_26 : decode cX45_cutWords 26 = .ok (.goto (-19), 3) := by decide +kernel
theorem dX45_cutWords_29 : decode cX45_cutWords 29 = .ok (.aload_n 0, 1) := by decide +kernel
theorem dX45_cutWords_30 : decode cX45_cutWords 30 = .ok (.getfield 418, 3) := by decide +kernel
theorem dX45_cutWords_33 : decode cX45_cutWords 33 = .ok (.aload_n 0, 1) := by decide +kernel
theorem dX45_cutWords_34 : decode cX45_cutWords 34 = .ok (.getfield 447, 3) := by decide +kernel
theorem dX45_cutWords_37 : decode cX45_cutWords 37 = .ok (.iload_n 3, 1) := by decide +kernel
theorem dX45_cutWords_38 : decode cX45_cutWords 38 = .ok (.iastore, 1) := by decide +kernel
theorem dX45_cutWords_39 : decode cX45_cutWords 39 = .ok (.iload_n 3, 1) := by decide +kernel
theorem dX45_cutWords_40 : decode cX45_cutWords 40 = .ok (.iload_n 2, 1) := by decide +kernel
theorem dX45_cutWords_41 : decode cX45_cutWords 41 = .ok (.if_icmp .ge 20, 3) := by decide +kernel
theorem dX45_cutWords_44 : decode cX45_cutWords 44 = .ok (.aload_n 0, 1) := by decide +kernel
theorem dX45_cutWords_45 : decode cX45_cutWords 45 = .ok (.getfield 414, 3) := by decide +kernel
theorem dX45_cutWords_48 : decode cX45_cutWords 48 = .ok (.iload_n 3, 1) := by decide +kernel
theorem dX45_cutWords_49 : decode cX45_cutWords 49 = .ok (.iaload, 1) := by decide +kernel
theorem dX45_cutWords_50 : decode cX45_cutWords 50 = .ok (.bipush 32, 2) := by decide +kernel
theorem dX45_cutWords_52 : decode cX45_cutWords 52 = .ok (.if_icmp .eq 9, 3) := by decide +kernel
theorem dX45_cutWords_55 : decode cX45_cutWords 55 = .ok (.iinc 3 1, 3) := by decide +kernel
theorem dX45_cutWords_58 : decode cX45_cutWords 58 = .ok (.goto (-19), 3) := by decide +kernel
theorem dX45_cutWords_61 : decode cX45_cutWords 61 = .ok (.aload_n 0, 1) := by decide +kernel
theorem dX45_cutWords_62 : decode cX45_cutWords 62 = .ok (.getfield 421, 3) := by decide +kernel
theorem dX45_cutWords_65 : decode cX45_cutWords 65 = .ok (.aload_n 0, 1) := by decide +kernel
theorem dX45_cutWords_66 : decode cX45_cutWords 66 = .ok (.getfield 447, 3) := by decide +kernel
theorem dX45_cutWords_69 : decode cX45_cutWords 69 = .ok (.iload_n 3, 1) := by decide +kernel
theorem dX45_cutWords_70 : decode cX45_cutWords 70 = .ok (.iastore, 1) := by decide +kernel
theorem dX45_cutWords_71 : decode cX45_cutWords 71 = .ok (.aload_n 0, 1) := by decide +kernel
theorem dX45_cutWords_72 : decode cX45_cutWords 72 = .ok (.dup, 1) := by decide +kernel
theorem dX45_cutWords_73 : decode cX45_cutWords 73 = .ok (.getfield 447, 3) := by decide +kernel
theorem dX45_cutWords_76 : decode cX45_cutWords 76 = .ok (.iconst 1, 1) := by decide +kernel
theorem dX45_cutWords_77 : decode cX45_cutWords 77 = .ok (.iadd, 1) := by decide +kernel
theorem dX45_cutWords_78 : decode cX45_cutWords 78 = .ok (.putfield 447, 3) := by decide +kernel
theorem dX45_cutWords_81 : decode cX45_cutWords 81 = .ok (.goto (-74), 3) := by decide +kernel
theorem dX45_cutWords_84 : decode cX45_cutWords 84 = .ok (.return_, 1) := by decide +kernel
abbrev cX45_line : ByteArray := prog_78_method_9_code
def yX45_line : MethodName := ⟨RX45, "line", "()I"⟩
abbrev cX45_find : ByteArray := prog_78_method_6_code
def yX45_find : MethodName := ⟨RX45, "find", "(I[Ljava/lang/String;)I"⟩
theorem dX45_find_0 : decode cX45_find 0 = .ok (.iconst 0, 1) := by decide +kernel
theorem dX45_find_1 : decode cX45_find 1 = .ok (.istore_n 3, 1) := by decide +kernel
theorem dX45_find_2 : decode cX45_find 2 = .ok (.iload_n 3, 1) := by decide +kernel
theorem dX45_find_3 : decode cX45_find 3 = .ok (.aload_n 2, 1) := by decide +kernel
theorem dX45_find_4 : decode cX45_find 4 = .ok (.arraylength, 1) := by decide +kernel
theorem dX45_find_5 : decode cX45_find 5 = .ok (.if_icmp .ge 22, 3) := by decide +kernel
theorem dX45_find_8 : decode cX45_find 8 = .ok (.aload_n 0, 1) := by decide +kernel
theorem dX45_find_9 : decode cX45_find 9 = .ok (.iload_n 1, 1) := by decide +kernel
theorem dX45_find_10 : decode cX45_find 10 = .ok (.aload_n 2, 1) := by decide +kernel
theorem dX45_find_11 : decode cX45_find 11 = .ok (.iload_n 3, 1) := by decide +kernel
theorem dX45_find_12 : decode cX45_find 12 = .ok (.aaload, 1) := by decide +kernel
theorem dX45_find_13 : decode cX45_find 13 = .ok (.invokevirtual 462, 3) := by decide +kernel
theorem dX45_find_16 : decode cX45_find 16 = .ok (.ifCond .eq 5, 3) := by decide +kernel
theorem dX45_find_19 : decode cX45_find 19 = .ok (.iload_n 3, 1) := by decide +kernel
theorem dX45_find_20 : decode cX45_find 20 = .ok (.ireturn, 1) := by decide +kernel
theorem dX45_find_21 : decode cX45_find 21 = .ok (.iinc 3 1, 3) := by decide +kernel
theorem dX45_find_24 : decode cX45_find 24 = .ok (.goto (-22), 3) := by decide +kernel
theorem dX45_find_27 : decode cX45_find 27 = .ok (.iconst (-1), 1) := by decide +kernel
theorem dX45_find_28 : decode cX45_find 28 = .ok (.ireturn, 1) := by decide +kernel
abbrev cX45_isWord : ByteArray := prog_78_method_5_code
def yX45_isWord : MethodName := ⟨RX45, "isWord", "(ILjava/lang/String;)Z"⟩
theorem dX45_isWord_0 : decode cX45_isWord 0 = .ok (.aload_n 0, 1) := by decide +kernel
theorem dX45_isWord_1 : decode cX45_isWord 1 = .ok (.getfield 421, 3) := by decide +kernel
theorem dX45_isWord_4 : decode cX45_isWord 4 = .ok (.iload_n 1, 1) := by decide +kernel
theorem dX45_isWord_5 : decode cX45_isWord 5 = .ok (.iaload, 1) := by decide +kernel
theorem dX45_isWord_6 : decode cX45_isWord 6 = .ok (.aload_n 0, 1) := by decide +kernel
theorem dX45_isWord_7 : decode cX45_isWord 7 = .ok (.getfield 418, 3) := by decide +kernel
theorem dX45_isWord_10 : decode cX45_isWord 10 = .ok (.iload_n 1, 1) := by decide +kernel
theorem dX45_isWord_11 : decode cX45_isWord 11 = .ok (.iaload, 1) := by decide +kernel
theorem dX45_isWord_12 : decode cX45_isWord 12 = .ok (.isub, 1) := by decide +kernel
theorem dX45_isWord_13 : decode cX45_isWord 13 = .ok (.istore_n 3, 1) := by decide +kernel
theorem dX45_isWord_14 : decode cX45_isWord 14 = .ok (.aload_n 2, 1) := by decide +kernel
theorem dX45_isWord_15 : decode cX45_isWord 15 = .ok (.bipush 32, 2) := by decide +kernel
theorem dX45_isWord_17 : decode cX45_isWord 17 = .ok (.invokevirtual 450, 3) := by decide +kernel
theorem dX45_isWord_20 : decode cX45_isWord 20 = .ok (.ifCond .ge 10, 3) := by decide +kernel
theorem dX45_isWord_23 : decode cX45_isWord 23 = .ok (.aload_n 2, 1) := by decide +kernel
theorem dX45_isWord_24 : decode cX45_isWord 24 = .ok (.invokevirtual 454, 3) := by decide +kernel
theorem dX45_isWord_27 : decode cX45_isWord 27 = .ok (.goto 9, 3) := by decide +kernel
theorem dX45_isWord_30 : decode cX45_isWord 30 = .ok (.aload_n 2, 1) := by decide +kernel
theorem dX45_isWord_31 : decode cX45_isWord 31 = .ok (.bipush 32, 2) := by decide +kernel
theorem dX45_isWord_33 : decode cX45_isWord 33 = .ok (.invokevirtual 450, 3) := by decide +kernel
theorem dX45_isWord_36 : decode cX45_isWord 36 = .ok (.istore 4, 2) := by decide +kernel
theorem dX45_isWord_38 : decode cX45_isWord 38 = .ok (.iload_n 3, 1) := by decide +kernel
theorem dX45_isWord_39 : decode cX45_isWord 39 = .ok (.iload 4, 2) := by decide +kernel
theorem dX45_isWord_41 : decode cX45_isWord 41 = .ok (.if_icmp .ne 7, 3) := by decide +kernel
theorem dX45_isWord_44 : decode cX45_isWord 44 = .ok (.iconst 1, 1) := by decide +kernel
theorem dX45_isWord_45 : decode cX45_isWord 45 = .ok (.goto 4, 3) := by decide +kernel
theorem dX45_isWord_48 : decode cX45_isWord 48 = .ok (.iconst 0, 1) := by decide +kernel
theorem dX45_isWord_49 : decode cX45_isWord 49 = .ok (.istore 5, 2) := by decide +kernel
theorem dX45_isWord_51 : decode cX45_isWord 51 = .ok (.iconst 0, 1) := by decide +kernel
theorem dX45_isWord_52 : decode cX45_isWord 52 = .ok (.istore 6, 2) := by decide +kernel
theorem dX45_isWord_54 : decode cX45_isWord 54 = .ok (.iload 6, 2) := by decide +kernel
theorem dX45_isWord_56 : decode cX45_isWord 56 = .ok (.iload_n 3, 1) := by decide +kernel
theorem dX45_isWord_57 : decode cX45_isWord 57 = .ok (.if_icmp .ge 44, 3) := by decide +kernel
theorem dX45_isWord_60 : decode cX45_isWord 60 = .ok (.iload 5, 2) := by decide +kernel
theorem dX45_isWord_62 : decode cX45_isWord 62 = .ok (.ifCond .eq 39, 3) := by decide +kernel
theorem dX45_isWord_65 : decode cX45_isWord 65 = .ok (.aload_n 0, 1) := by decide +kernel
theorem dX45_isWord_66 : decode cX45_isWord 66 = .ok (.getfield 414, 3) := by decide +kernel
theorem dX45_isWord_69 : decode cX45_isWord 69 = .ok (.aload_n 0, 1) := by decide +kernel
theorem dX45_isWord_70 : decode cX45_isWord 70 = .ok (.getfield 418, 3) := by decide +kernel
theorem dX45_isWord_73 : decode cX45_isWord 73 = .ok (.iload_n 1, 1) := by decide +kernel
theorem dX45_isWord_74 : decode cX45_isWord 74 = .ok (.iaload, 1) := by decide +kernel
theorem dX45_isWord_75 : decode cX45_isWord 75 = .ok (.iload 6, 2) := by decide +kernel
theorem dX45_isWord_77 : decode cX45_isWord 77 = .ok (.iadd, 1) := by decide +kernel
theorem dX45_isWord_78 : decode cX45_isWord 78 = .ok (.iaload, 1) := by decide +kernel
theorem dX45_isWord_79 : decode cX45_isWord 79 = .ok (.aload_n 2, 1) := by decide +kernel
theorem dX45_isWord_80 : decode cX45_isWord 80 = .ok (.iload 6, 2) := by decide +kernel
theorem dX45_isWord_82 : decode cX45_isWord 82 = .ok (.invokevirtual 458, 3) := by decide +kernel
theorem dX45_isWord_85 : decode cX45_isWord 85 = .ok (.if_icmp .ne 7, 3) := by decide +kernel
theorem dX45_isWord_88 : decode cX45_isWord 88 = .ok (.iconst 1, 1) := by decide +kernel
theorem dX45_isWord_89 : decode cX45_isWord 89 = .ok (.goto 4, 3) := by decide +kernel
theorem dX45_isWord_92 : decode cX45_isWord 92 = .ok (.iconst 0, 1) := by decide +kernel
theorem dX45_isWord_93 : decode cX45_isWord 93 = .ok (.istore 5, 2) := by decide +kernel
theorem dX45_isWord_95 : decode cX45_isWord 95 = .ok (.iinc 6 1, 3) := by decide +kernel
theorem dX45_isWord_98 : decode cX45_isWord 98 = .ok (.goto (-44), 3) := by decide +kernel
theorem dX45_isWord_101 : decode cX45_isWord 101 = .ok (.iload 5, 2) := by decide +kernel
theorem dX45_isWord_103 : decode cX45_isWord 103 = .ok (.ireturn, 1) := by decide +kernel
abbrev cX45_number : ByteArray := prog_78_method_7_code
def yX45_number : MethodName := ⟨RX45, "number", "(I)J"⟩
theorem dX45_number_0 : decode cX45_number 0 = .ok (.aload_n 0, 1) := by decide +kernel
theorem dX45_number_1 : decode cX45_number 1 = .ok (.getfield 418, 3) := by decide +kernel
theorem dX45_number_4 : decode cX45_number 4 = .ok (.iload_n 1, 1) := by decide +kernel
theorem dX45_number_5 : decode cX45_number 5 = .ok (.iaload, 1) := by decide +kernel
theorem dX45_number_6 : decode cX45_number 6 = .ok (.istore_n 2, 1) := by decide +kernel
theorem dX45_number_7 : decode cX45_number 7 = .ok (.aload_n 0, 1) := by decide +kernel
theorem dX45_number_8 : decode cX45_number 8 = .ok (.getfield 414, 3) := by decide +kernel
theorem dX45_number_11 : decode cX45_number 11 = .ok (.iload_n 2, 1) := by decide +kernel
theorem dX45_number_12 : decode cX45_number 12 = .ok (.iaload, 1) := by decide +kernel
theorem dX45_number_13 : decode cX45_number 13 = .ok (.bipush 64, 2) := by decide +kernel
theorem dX45_number_15 : decode cX45_number 15 = .ok (.if_icmp .ne 7, 3) := by decide +kernel
theorem dX45_number_18 : decode cX45_number 18 = .ok (.iconst 1, 1) := by decide +kernel
theorem dX45_number_19 : decode cX45_number 19 = .ok (.goto 4, 3) := by decide +kernel
theorem dX45_number_22 : decode cX45_number 22 = .ok (.iconst 0, 1) := by decide +kernel
theorem dX45_number_23 : decode cX45_number 23 = .ok (.istore_n 3, 1) := by decide +kernel
theorem dX45_number_24 : decode cX45_number 24 = .ok (.aload_n 0, 1) := by decide +kernel
theorem dX45_number_25 : decode cX45_number 25 = .ok (.getfield 414, 3) := by decide +kernel
theorem dX45_number_28 : decode cX45_number 28 = .ok (.iload_n 2, 1) := by decide +kernel
theorem dX45_number_29 : decode cX45_number 29 = .ok (.iaload, 1) := by decide +kernel
theorem dX45_number_30 : decode cX45_number 30 = .ok (.bipush 45, 2) := by decide +kernel
theorem dX45_number_32 : decode cX45_number 32 = .ok (.if_icmp .ne 7, 3) := by decide +kernel
theorem dX45_number_35 : decode cX45_number 35 = .ok (.iconst 1, 1) := by decide +kernel
theorem dX45_number_36 : decode cX45_number 36 = .ok (.goto 4, 3) := by decide +kernel
theorem dX45_number_39 : decode cX45_number 39 = .ok (.iconst 0, 1) := by decide +kernel
theorem dX45_number_40 : decode cX45_number 40 = .ok (.istore 4, 2) := by decide +kernel
theorem dX45_number_42 : decode cX45_number 42 = .ok (.iload_n 3, 1) := by decide +kernel
theorem dX45_number_43 : decode cX45_number 43 = .ok (.ifCond .ne 8, 3) := by decide +kernel
theorem dX45_number_46 : decode cX45_number 46 = .ok (.iload 4, 2) := by decide +kernel
theorem dX45_number_48 : decode cX45_number 48 = .ok (.ifCond .eq 9, 3) := by decide +kernel
theorem dX45_number_51 : decode cX45_number 51 = .ok (.iload_n 2, 1) := by decide +kernel
theorem dX45_number_52 : decode cX45_number 52 = .ok (.iconst 1, 1) := by decide +kernel
theorem dX45_number_53 : decode cX45_number 53 = .ok (.iadd, 1) := by decide +kernel
theorem dX45_number_54 : decode cX45_number 54 = .ok (.goto 4, 3) := by decide +kernel
theorem dX45_number_57 : decode cX45_number 57 = .ok (.iload_n 2, 1) := by decide +kernel
theorem dX45_number_58 : decode cX45_number 58 = .ok (.istore 5, 2) := by decide +kernel
theorem dX45_number_60 : decode cX45_number 60 = .ok (.aload_n 0, 1) := by decide +kernel
theorem dX45_number_61 : decode cX45_number 61 = .ok (.getfield 421, 3) := by decide +kernel
theorem dX45_number_64 : decode cX45_number 64 = .ok (.iload_n 1, 1) := by decide +kernel
theorem dX45_number_65 : decode cX45_number 65 = .ok (.iaload, 1) := by decide +kernel
theorem dX45_number_66 : decode cX45_number 66 = .ok (.iload 5, 2) := by decide +kernel
theorem dX45_number_68 : decode cX45_number 68 = .ok (.isub, 1) := by decide +kernel
theorem dX45_number_69 : decode cX45_number 69 = .ok (.istore 6, 2) := by decide +kernel
theorem dX45_number_71 : decode cX45_number 71 = .ok (.iload 6, 2) := by decide +kernel
theorem dX45_number_73 : decode cX45_number 73 = .ok (.iconst 1, 1) := by decide +kernel
theorem dX45_number_74 : decode cX45_number 74 = .ok (.if_icmp .lt 18, 3) := by decide +kernel
theorem dX45_number_77 : decode cX45_number 77 = .ok (.iload 6, 2) := by decide +kernel
theorem dX45_number_79 : decode cX45_number 79 = .ok (.iload_n 3, 1) := by decide +kernel
theorem dX45_number_80 : decode cX45_number 80 = .ok (.ifCond .eq 7, 3) := by decide +kernel
theorem dX45_number_83 : decode cX45_number 83 = .ok (.iconst 3, 1) := by decide +kernel
theorem dX45_number_84 : decode cX45_number 84 = .ok (.goto 5, 3) := by decide +kernel
theorem dX45_number_87 : decode cX45_number 87 = .ok (.bipush 18, 2) := by decide +kernel
theorem dX45_number_89 : decode cX45_number 89 = .ok (.if_icmp .le 7, 3) := by decide +kernel
theorem dX45_number_92 : decode cX45_number 92 = .ok (.ldc2_w 466, 3) := by decide +kernel
theorem dX45_number_95 : decode cX45_number 95 = .ok (.lreturn, 1) := by decide +kernel
theorem dX45_number_96 : decode cX45_number 96 = .ok (.lconst 0, 1) := by decide +kernel
theorem dX45_number_97 : decode cX45_number 97 = .ok (.lstore 7, 2) := by decide +kernel
theorem dX45_number_99 : decode cX45_number 99 = .ok (.iload 5, 2) := by decide +kernel
theorem dX45_number_101 : decode cX45_number 101 = .ok (.istore 9, 2) := by decide +kernel
theorem dX45_number_103 : decode cX45_number 103 = .ok (.iload 9, 2) := by decide +kernel
theorem dX45_number_105 : decode cX45_number 105 = .ok (.aload_n 0, 1) := by decide +kernel
theorem dX45_number_106 : decode cX45_number 106 = .ok (.getfield 421, 3) := by decide +kernel
theorem dX45_number_109 : decode cX45_number 109 = .ok (.iload_n 1, 1) := by decide +kernel
theorem dX45_number_110 : decode cX45_number 110 = .ok (.iaload, 1) := by decide +kernel
theorem dX45_number_111 : decode cX45_number 111 = .ok (.if_icmp .ge 58, 3) := by decide +kernel
theorem dX45_number_114 : decode cX45_number 114 = .ok (.aload_n 0, 1) := by decide +kernel
theorem dX45_number_115 : decode cX45_number 115 = .ok (.getfield 414, 3) := by decide +kernel
theorem dX45_number_118 : decode cX45_number 118 = .ok (.iload 9, 2) := by decide +kernel
theorem dX45_number_120 : decode cX45_number 120 = .ok (.iaload, 1) := by decide +kernel
theorem dX45_number_121 : decode cX45_number 121 = .ok (.bipush 48, 2) := by decide +kernel
theorem dX45_number_123 : decode cX45_number 123 = .ok (.if_icmp .lt 15, 3) := by decide +kernel
theorem dX45_number_126 : decode cX45_number 126 = .ok (.aload_n 0, 1) := by decide +kernel
theorem dX45_number_127 : decode cX45_number 127 = .ok (.getfield 414, 3) := by decide +kernel
theorem dX45_number_130 : decode cX45_number 130 = .ok (.iload 9, 2) := by decide +kernel
theorem dX45_number_132 : decode cX45_number 132 = .ok (.iaload, 1) := by decide +kernel
theorem dX45_number_133 : decode cX45_number 133 = .ok (.bipush 57, 2) := by decide +kernel
theorem dX45_number_135 : decode cX45_number 135 = .ok (.if_icmp .le 7, 3) := by decide +kernel
theorem dX45_number_138 : decode cX45_number 138 = .ok (.ldc2_w 466, 3) := by decide +kernel
theorem dX45_number_141 : decode cX45_number 141 = .ok (.lreturn, 1) := by decide +kernel
theorem dX45_number_142 : decode cX45_number 142 = .ok (.ldc2_w 468, 3) := by decide +kernel
theorem dX45_number_145 : decode cX45_number 145 = .ok (.lload 7, 2) := by decide +kernel
theorem dX45_number_147 : decode cX45_number 147 = .ok (.lmul, 1) := by decide +kernel
theorem dX45_number_148 : decode cX45_number 148 = .ok (.aload_n 0, 1) := by decide +kernel
theorem dX45_number_149 : decode cX45_number 149 = .ok (.getfield 414, 3) := by decide +kernel
theorem dX45_number_152 : decode cX45_number 152 = .ok (.iload 9, 2) := by decide +kernel
theorem dX45_number_154 : decode cX45_number 154 = .ok (.iaload, 1) := by decide +kernel
theorem dX45_number_155 : decode cX45_number 155 = .ok (.i2l, 1) := by decide +kernel
theorem dX45_number_156 : decode cX45_number 156 = .ok (.ladd, 1) := by decide +kernel
theorem dX45_number_157 : decode cX45_number 157 = .ok (.ldc2_w 470, 3) := by decide +kernel
theorem dX45_number_160 : decode cX45_number 160 = .ok (.lsub, 1) := by decide +kernel
theorem dX45_number_161 : decode cX45_number 161 = .ok (.lstore 7, 2) := by decide +kernel
theorem dX45_number_163 : decode cX45_number 163 = .ok (.iinc 9 1, 3) := by decide +kernel
theorem dX45_number_166 : decode cX45_number 166 = .ok (.goto (-63), 3) := by decide +kernel
theorem dX45_number_169 : decode cX45_number 169 = .ok (.iload_n 3, 1) := by decide +kernel
theorem dX45_number_170 : decode cX45_number 170 = .ok (.ifCond .eq 29, 3) := by decide +kernel
theorem dX45_number_173 : decode cX45_number 173 = .ok (.lload 7, 2) := by decide +kernel
theorem dX45_number_175 : decode cX45_number 175 = .ok (.aload_n 0, 1) := by decide +kernel
theorem dX45_number_176 : decode cX45_number 176 = .ok (.getfield 472, 3) := by decide +kernel
theorem dX45_number_179 : decode cX45_number 179 = .ok (.i2l, 1) := by decide +kernel
theorem dX45_number_180 : decode cX45_number 180 = .ok (.lcmp, 1) := by decide +kernel
theorem dX45_number_181 : decode cX45_number 181 = .ok (.ifCond .ge 14, 3) := by decide +kernel
theorem dX45_number_184 : decode cX45_number 184 = .ok (.aload_n 0, 1) := by decide +kernel
theorem dX45_number_185 : decode cX45_number 185 = .ok (.getfield 428, 3) := by decide +kernel
theorem dX45_number_188 : decode cX45_number 188 = .ok (.lload 7, 2) := by decide +kernel
theorem dX45_number_190 : decode cX45_number 190 = .ok (.l2i, 1) := by decide +kernel
theorem dX45_number_191 : decode cX45_number 191 = .ok (.laload, 1) := by decide +kernel
theorem dX45_number_192 : decode cX45_number 192 = .ok (.goto 6, 3) := by decide +kernel
theorem dX45_number_195 : decode cX45_number 195 = .ok (.ldc2_w 466, 3) := by decide +kernel
theorem dX45_number_198 : decode cX45_number 198 = .ok (.lreturn, 1) := by decide +kernel
theorem dX45_number_199 : decode cX45_number 199 = .ok (.iload 4, 2) := by decide +kernel
theorem dX45_number_201 : decode cX45_number 201 = .ok (.ifCond .eq 9, 3) := by decide +kernel
theorem dX45_number_204 : decode cX45_number 204 = .ok (.lload 7, 2) := by decide +kernel
theorem dX45_number_206 : decode cX45_number 206 = .ok (.lneg, 1) := by decide +kernel
theorem dX45_number_207 : decode cX45_number 207 = .ok (.goto 5, 3) := by decide +kernel
theorem dX45_number_210 : decode cX45_number 210 = .ok (.lload 7, 2) := by decide +kernel
theorem dX45_number_212 : decode cX45_number 212 = .ok (.lreturn, 1) := by decide +kernel
abbrev cX45_isGood : ByteArray := prog_78_method_8_code
def yX45_isGood : MethodName := ⟨RX45, "isGood", "(CJ)Z"⟩
theorem dX45_isGood_0 : decode cX45_isGood 0 = .ok (.lload_n 2, 1) := by decide +kernel
theorem dX45_isGood_1 : decode cX45_isGood 1 = .ok (.ldc2_w 466, 3) := by decide +kernel
theorem dX45_isGood_4 : decode cX45_isGood 4 = .ok (.lcmp, 1) := by decide +kernel
theorem dX45_isGood_5 : decode cX45_isGood 5 = .ok (.ifCond .eq 45, 3) := by decide +kernel
theorem dX45_isGood_8 : decode cX45_isGood 8 = .ok (.iload_n 1, 1) := by decide +kernel
theorem dX45_isGood_9 : decode cX45_isGood 9 = .ok (.bipush 108, 2) := by decide +kernel
theorem dX45_isGood_11 : decode cX45_isGood 11 = .ok (.if_icmp .eq 35, 3) := by decide +kernel
theorem dX45_isGood_14 : decode cX45_isGood 14 = .ok (.iload_n 1, 1) := by decide +kernel
theorem dX45_isGood_15 : decode cX45_isGood 15 = .ok (.bipush 105, 2) := by decide +kernel
theorem dX45_isGood_17 : decode cX45_isGood 17 = .ok (.if_icmp .ne 11, 3) := by decide +kernel
theorem dX45_isGood_20 : decode cX45_isGood 20 = .ok (.lload_n 2, 1) := by decide +kernel
theorem dX45_isGood_21 : decode cX45_isGood 21 = .ok (.lload_n 2, 1) := by decide +kernel
theorem dX45_isGood_22 : decode cX45_isGood 22 = .ok (.l2i, 1) := by decide +kernel
theorem dX45_isGood_23 : decode cX45_isGood 23 = .ok (.i2l, 1) := by decide +kernel
theorem dX45_isGood_24 : decode cX45_isGood 24 = .ok (.lcmp, 1) := by decide +kernel
theorem dX45_isGood_25 : decode cX45_isGood 25 = .ok (.ifCond .eq 21, 3) := by decide +kernel
theorem dX45_isGood_28 : decode cX45_isGood 28 = .ok (.iload_n 1, 1) := by decide +kernel
theorem dX45_isGood_29 : decode cX45_isGood 29 = .ok (.bipush 98, 2) := by decide +kernel
theorem dX45_isGood_31 : decode cX45_isGood 31 = .ok (.if_icmp .ne 19, 3) := by decide +kernel
theorem dX45_isGood_34 : decode cX45_isGood 34 = .ok (.lload_n 2, 1) := by decide +kernel
theorem dX45_isGood_35 : decode cX45_isGood 35 = .ok (.lconst 0, 1) := by decide +kernel
theorem dX45_isGood_36 : decode cX45_isGood 36 = .ok (.lcmp, 1) := by decide +kernel
theorem dX45_isGood_37 : decode cX45_isGood 37 = .ok (.ifCond .eq 9, 3) := by decide +kernel
theorem dX45_isGood_40 : decode cX45_isGood 40 = .ok (.lload_n 2, 1) := by decide +kernel
theorem dX45_isGood_41 : decode cX45_isGood 41 = .ok (.lconst 1, 1) := by decide +kernel
theorem dX45_isGood_42 : decode cX45_isGood 42 = .ok (.lcmp, 1) := by decide +kernel
theorem dX45_isGood_43 : decode cX45_isGood 43 = .ok (.ifCond .ne 7, 3) := by decide +kernel
theorem dX45_isGood_46 : decode cX45_isGood 46 = .ok (.iconst 1, 1) := by decide +kernel
theorem dX45_isGood_47 : decode cX45_isGood 47 = .ok (.goto 4, 3) := by decide +kernel
theorem dX45_isGood_50 : decode cX45_isGood 50 = .ok (.iconst 0, 1) := by decide +kernel
theorem dX45_isGood_51 : decode cX45_isGood 51 = .ok (.ireturn, 1) := by decide +kernel
abbrev cX45_callOf : ByteArray := prog_78_method_32_code
def yX45_callOf : MethodName := ⟨RX45, "callOf", "(II)J"⟩
theorem dX45_callOf_0 : decode cX45_callOf 0 = .ok (.iload_n 1, 1) := by decide +kernel
theorem dX45_callOf_1 : decode cX45_callOf 1 = .ok (.tableswitch 125 0 10 #[59, 65, 71, 77, 83, 89, 95, 101, 107, 113, 119], 59) := by decide +kernel
theorem dX45_callOf_60 : decode cX45_callOf 60 = .ok (.aload_n 0, 1) := by decide +kernel
theorem dX45_callOf_61 : decode cX45_callOf 61 = .ok (.iload_n 2, 1) := by decide +kernel
theorem dX45_callOf_62 : decode cX45_callOf 62 = .ok (.invokevirtual 654, 3) := by decide +kernel
theorem dX45_callOf_65 : decode cX45_callOf 65 = .ok (.lreturn, 1) := by decide +kernel
theorem dX45_callOf_66 : decode cX45_callOf 66 = .ok (.aload_n 0, 1) := by decide +kernel
theorem dX45_callOf_67 : decode cX45_callOf 67 = .ok (.iload_n 2, 1) := by decide +kernel
theorem dX45_callOf_68 : decode cX45_callOf 68 = .ok (.invokevirtual 657, 3) := by decide +kernel
theorem dX45_callOf_71 : decode cX45_callOf 71 = .ok (.lreturn, 1) := by decide +kernel
theorem dX45_callOf_72 : decode cX45_callOf 72 = .ok (.aload_n 0, 1) := by decide +kernel
theorem dX45_callOf_73 : decode cX45_callOf 73 = .ok (.iload_n 2, 1) := by decide +kernel
theorem dX45_callOf_74 : decode cX45_callOf 74 = .ok (.invokevirtual 660, 3) := by decide +kernel
theorem dX45_callOf_77 : decode cX45_callOf 77 = .ok (.lreturn, 1) := by decide +kernel
theorem dX45_callOf_78 : decode cX45_callOf 78 = .ok (.aload_n 0, 1) := by decide +kernel
theorem dX45_callOf_79 : decode cX45_callOf 79 = .ok (.iload_n 2, 1) := by decide +kernel
theorem dX45_callOf_80 : decode cX45_callOf 80 = .ok (.invokevirtual 663, 3) := by decide +kernel
theorem dX45_callOf_83 : decode cX45_callOf 83 = .ok (.lreturn, 1) := by decide +kernel
theorem dX45_callOf_84 : decode cX45_callOf 84 = .ok (.aload_n 0, 1) := by decide +kernel
theorem dX45_callOf_85 : decode cX45_callOf 85 = .ok (.iload_n 2, 1) := by decide +kernel
theorem dX45_callOf_86 : decode cX45_callOf 86 = .ok (.invokevirtual 666, 3) := by decide +kernel
theorem dX45_callOf_89 : decode cX45_callOf 89 = .ok (.lreturn, 1) := by decide +kernel
theorem dX45_callOf_90 : decode cX45_callOf 90 = .ok (.aload_n 0, 1) := by decide +kernel
theorem dX45_callOf_91 : decode cX45_callOf 91 = .ok (.iload_n 2, 1) := by decide +kernel
theorem dX45_callOf_92 : decode cX45_callOf 92 = .ok (.invokevirtual 669, 3) := by decide +kernel
theorem dX45_callOf_95 : decode cX45_callOf 95 = .ok (.lreturn, 1) := by decide +kernel
theorem dX45_callOf_96 : decode cX45_callOf 96 = .ok (.aload_n 0, 1) := by decide +kernel
theorem dX45_callOf_97 : decode cX45_callOf 97 = .ok (.iload_n 2, 1) := by decide +kernel
theorem dX45_callOf_98 : decode cX45_callOf 98 = .ok (.invokevirtual 672, 3) := by decide +kernel
theorem dX45_callOf_101 : decode cX45_callOf 101 = .ok (.lreturn, 1) := by decide +kernel
theorem dX45_callOf_102 : decode cX45_callOf 102 = .ok (.aload_n 0, 1) := by decide +kernel
theorem dX45_callOf_103 : decode cX45_callOf 103 = .ok (.iload_n 2, 1) := by decide +kernel
theorem dX45_callOf_104 : decode cX45_callOf 104 = .ok (.invokevirtual 675, 3) := by decide +kernel
theorem dX45_callOf_107 : decode cX45_callOf 107 = .ok (.lreturn, 1) := by decide +kernel
theorem dX45_callOf_108 : decode cX45_callOf 108 = .ok (.aload_n 0, 1) := by decide +kernel
theorem dX45_callOf_109 : decode cX45_callOf 109 = .ok (.iload_n 2, 1) := by decide +kernel
theorem dX45_callOf_110 : decode cX45_callOf 110 = .ok (.invokevirtual 678, 3) := by decide +kernel
theorem dX45_callOf_113 : decode cX45_callOf 113 = .ok (.lreturn, 1) := by decide +kernel
theorem dX45_callOf_114 : decode cX45_callOf 114 = .ok (.aload_n 0, 1) := by decide +kernel
theorem dX45_callOf_115 : decode cX45_callOf 115 = .ok (.iload_n 2, 1) := by decide +kernel
theorem dX45_callOf_116 : decode cX45_callOf 116 = .ok (.invokevirtual 681, 3) := by decide +kernel
theorem dX45_callOf_119 : decode cX45_callOf 119 = .ok (.lreturn, 1) := by decide +kernel
theorem dX45_callOf_120 : decode cX45_callOf 120 = .ok (.aload_n 0, 1) := by decide +kernel
theorem dX45_callOf_121 : decode cX45_callOf 121 = .ok (.iload_n 2, 1) := by decide +kernel
theorem dX45_callOf_122 : decode cX45_callOf 122 = .ok (.invokevirtual 684, 3) := by decide +kernel
theorem dX45_callOf_125 : decode cX45_callOf 125 = .ok (.lreturn, 1) := by decide +kernel
theorem dX45_callOf_126 : decode cX45_callOf 126 = .ok (.aload_n 0, 1) := by decide +kernel
theorem dX45_callOf_127 : decode cX45_callOf 127 = .ok (.iload_n 2, 1) := by decide +kernel
theorem dX45_callOf_128 : decode cX45_callOf 128 = .ok (.invokevirtual 687, 3) := by decide +kernel
theorem dX45_callOf_131 : decode cX45_callOf 131 = .ok (.lreturn, 1) := by decide +kernel
abbrev cX45_houseCall : ByteArray := prog_78_method_34_code
def yX45_houseCall : MethodName := ⟨RX45, "houseCall", "(I)J"⟩
theorem dX45_houseCall_0 : decode cX45_houseCall 0 = .ok (.aload_n 0, 1) := by decide +kernel
theorem dX45_houseCall_1 : decode cX45_houseCall 1 = .ok (.getfield 424, 3) := by decide +kernel
theorem dX45_houseCall_4 : decode cX45_houseCall 4 = .ok (.iconst 0, 1) := by decide +kernel
theorem dX45_houseCall_5 : decode cX45_houseCall 5 = .ok (.laload, 1) := by decide +kernel
theorem dX45_houseCall_6 : decode cX45_houseCall 6 = .ok (.l2i, 1) := by decide +kernel
theorem dX45_houseCall_7 : decode cX45_houseCall 7 = .ok (.istore_n 2, 1) := by decide +kernel
theorem dX45_houseCall_8 : decode cX45_houseCall 8 = .ok (.aload_n 0, 1) := by decide +kernel
theorem dX45_houseCall_9 : decode cX45_houseCall 9 = .ok (.getfield 424, 3) := by decide +kernel
theorem dX45_houseCall_12 : decode cX45_houseCall 12 = .ok (.iconst 1, 1) := by decide +kernel
theorem dX45_houseCall_13 : decode cX45_houseCall 13 = .ok (.laload, 1) := by decide +kernel
theorem dX45_houseCall_14 : decode cX45_houseCall 14 = .ok (.l2i, 1) := by decide +kernel
theorem dX45_houseCall_15 : decode cX45_houseCall 15 = .ok (.istore_n 3, 1) := by decide +kernel
theorem dX45_houseCall_16 : decode cX45_houseCall 16 = .ok (.iload_n 1, 1) := by decide +kernel
theorem dX45_houseCall_17 : decode cX45_houseCall 17 = .ok (.tableswitch 129 0 8 #[51, 74, 79, 84, 91, 98, 103, 117, 123], 51) := by decide +kernel
theorem dX45_houseCall_68 : decode cX45_houseCall 68 = .ok (.aload_n 0, 1) := by decide +kernel
theorem dX45_houseCall_69 : decode cX45_houseCall 69 = .ok (.iload_n 2, 1) := by decide +kernel
theorem dX45_houseCall_70 : decode cX45_houseCall 70 = .ok (.iload_n 3, 1) := by decide +kernel
theorem dX45_houseCall_71 : decode cX45_houseCall 71 = .ok (.aload_n 0, 1) := by decide +kernel
theorem dX45_houseCall_72 : decode cX45_houseCall 72 = .ok (.getfield 424, 3) := by decide +kernel
theorem dX45_houseCall_75 : decode cX45_houseCall 75 = .ok (.iconst 2, 1) := by decide +kernel
theorem dX45_houseCall_76 : decode cX45_houseCall 76 = .ok (.laload, 1) := by decide +kernel
theorem dX45_houseCall_77 : decode cX45_houseCall 77 = .ok (.lconst 1, 1) := by decide +kernel
theorem dX45_houseCall_78 : decode cX45_houseCall 78 = .ok (.lcmp, 1) := by decide +kernel
theorem dX45_houseCall_79 : decode cX45_houseCall 79 = .ok (.ifCond .ne 7, 3) := by decide +kernel
theorem dX45_houseCall_82 : decode cX45_houseCall 82 = .ok (.iconst 1, 1) := by decide +kernel
theorem dX45_houseCall_83 : decode cX45_houseCall 83 = .ok (.goto 4, 3) := by decide +kernel
theorem dX45_houseCall_86 : decode cX45_houseCall 86 = .ok (.iconst 0, 1) := by decide +kernel
theorem dX45_houseCall_87 : decode cX45_houseCall 87 = .ok (.invokevirtual 690, 3) := by decide +kernel
theorem dX45_houseCall_90 : decode cX45_houseCall 90 = .ok (.lreturn, 1) := by decide +kernel
theorem dX45_houseCall_91 : decode cX45_houseCall 91 = .ok (.aload_n 0, 1) := by decide +kernel
theorem dX45_houseCall_92 : decode cX45_houseCall 92 = .ok (.invokevirtual 694, 3) := by decide +kernel
theorem dX45_houseCall_95 : decode cX45_houseCall 95 = .ok (.lreturn, 1) := by decide +kernel
theorem dX45_houseCall_96 : decode cX45_houseCall 96 = .ok (.aload_n 0, 1) := by decide +kernel
theorem dX45_houseCall_97 : decode cX45_houseCall 97 = .ok (.invokevirtual 698, 3) := by decide +kernel
theorem dX45_houseCall_100 : decode cX45_houseCall 100 = .ok (.lreturn, 1) := by decide +kernel
theorem dX45_houseCall_101 : decode cX45_houseCall 101 = .ok (.aload_n 0, 1) := by decide +kernel
theorem dX45_houseCall_102 : decode cX45_houseCall 102 = .ok (.iload_n 2, 1) := by decide +kernel
theorem dX45_houseCall_103 : decode cX45_houseCall 103 = .ok (.iload_n 3, 1) := by decide +kernel
theorem dX45_houseCall_104 : decode cX45_houseCall 104 = .ok (.invokevirtual 701, 3) := by decide +kernel
theorem dX45_houseCall_107 : decode cX45_houseCall 107 = .ok (.lreturn, 1) := by decide +kernel
theorem dX45_houseCall_108 : decode cX45_houseCall 108 = .ok (.aload_n 0, 1) := by decide +kernel
theorem dX45_houseCall_109 : decode cX45_houseCall 109 = .ok (.iload_n 2, 1) := by decide +kernel
theorem dX45_houseCall_110 : decode cX45_houseCall 110 = .ok (.iload_n 3, 1) := by decide +kernel
theorem dX45_houseCall_111 : decode cX45_houseCall 111 = .ok (.invokevirtual 704, 3) := by decide +kernel
theorem dX45_houseCall_114 : decode cX45_houseCall 114 = .ok (.lreturn, 1) := by decide +kernel
theorem dX45_houseCall_115 : decode cX45_houseCall 115 = .ok (.aload_n 0, 1) := by decide +kernel
theorem dX45_houseCall_116 : decode cX45_houseCall 116 = .ok (.invokevirtual 707, 3) := by decide +kernel
theorem dX45_houseCall_119 : decode cX45_houseCall 119 = .ok (.lreturn, 1) := by decide +kernel
theorem dX45_houseCall_120 : decode cX45_houseCall 120 = .ok (.aload_n 0, 1) := by decide +kernel
theorem dX45_houseCall_121 : decode cX45_houseCall 121 = .ok (.iload_n 2, 1) := by decide +kernel
theorem dX45_houseCall_122 : decode cX45_houseCall 122 = .ok (.iload_n 3, 1) := by decide +kernel
theorem dX45_houseCall_123 : decode cX45_houseCall 123 = .ok (.aload_n 0, 1) := by decide +kernel
theorem dX45_houseCall_124 : decode cX45_houseCall 124 = .ok (.getfield 424, 3) := by decide +kernel
theorem dX45_houseCall_127 : decode cX45_houseCall 127 = .ok (.iconst 2, 1) := by decide +kernel
theorem dX45_houseCall_128 : decode cX45_houseCall 128 = .ok (.laload, 1) := by decide +kernel
theorem dX45_houseCall_129 : decode cX45_houseCall 129 = .ok (.l2i, 1) := by decide +kernel
theorem dX45_houseCall_130 : decode cX45_houseCall 130 = .ok (.invokevirtual 710, 3) := by decide +kernel
theorem dX45_houseCall_133 : decode cX45_houseCall 133 = .ok (.lreturn, 1) := by decide +kernel
theorem dX45_houseCall_134 : decode cX45_houseCall 134 = .ok (.aload_n 0, 1) := by decide +kernel
theorem dX45_houseCall_135 : decode cX45_houseCall 135 = .ok (.iload_n 2, 1) := by decide +kernel
theorem dX45_houseCall_136 : decode cX45_houseCall 136 = .ok (.invokevirtual 714, 3) := by decide +kernel
theorem dX45_houseCall_139 : decode cX45_houseCall 139 = .ok (.lreturn, 1) := by decide +kernel
theorem dX45_houseCall_140 : decode cX45_houseCall 140 = .ok (.aload_n 0, 1) := by decide +kernel
theorem dX45_houseCall_141 : decode cX45_houseCall 141 = .ok (.invokevirtual 717, 3) := by decide +kernel
theorem dX45_houseCall_144 : decode cX45_houseCall 144 = .ok (.i2l, 1) := by decide +kernel
theorem dX45_houseCall_145 : decode cX45_houseCall 145 = .ok (.lreturn, 1) := by decide +kernel
theorem dX45_houseCall_146 : decode cX45_houseCall 146 = .ok (.aload_n 0, 1) := by decide +kernel
theorem dX45_houseCall_147 : decode cX45_houseCall 147 = .ok (.iload_n 2, 1) := by decide +kernel
theorem dX45_houseCall_148 : decode cX45_houseCall 148 = .ok (.iload_n 3, 1) := by decide +kernel
theorem dX45_houseCall_149 : decode cX45_houseCall 149 = .ok (.invokevirtual 720, 3) := by decide +kernel
theorem dX45_houseCall_152 : decode cX45_houseCall 152 = .ok (.lreturn, 1) := by decide +kernel
abbrev cX45_say : ByteArray := prog_78_method_22_code
def yX45_say : MethodName := ⟨RX45, "say", "(IIZ)J"⟩
theorem dX45_say_0 : decode cX45_say 0 = .ok (.iload_n 2, 1) := by decide +kernel
theorem dX45_say_1 : decode cX45_say 1 = .ok (.ifCond .lt 10, 3) := by decide +kernel
theorem dX45_say_4 : decode cX45_say 4 = .ok (.iload_n 2, 1) := by decide +kernel
theorem dX45_say_5 : decode cX45_say 5 = .ok (.sipush 200, 3) := by decide +kernel
theorem dX45_say_8 : decode cX45_say 8 = .ok (.if_icmp .lt 7, 3) := by decide +kernel
theorem dX45_say_11 : decode cX45_say 11 = .ok (.ldc2_w 506, 3) := by decide +kernel
theorem dX45_say_14 : decode cX45_say 14 = .ok (.lreturn, 1) := by decide +kernel
theorem dX45_say_15 : decode cX45_say 15 = .ok (.aload_n 0, 1) := by decide +kernel
theorem dX45_say_16 : decode cX45_say 16 = .ok (.getfield 355, 3) := by decide +kernel
theorem dX45_say_19 : decode cX45_say 19 = .ok (.invokevirtual 518, 3) := by decide +kernel
theorem dX45_say_22 : decode cX45_say 22 = .ok (.istore 4, 2) := by decide +kernel
theorem dX45_say_24 : decode cX45_say 24 = .ok (.aload_n 0, 1) := by decide +kernel
theorem dX45_say_25 : decode cX45_say 25 = .ok (.getfield 373, 3) := by decide +kernel
theorem dX45_say_28 : decode cX45_say 28 = .ok (.iload_n 1, 1) := by decide +kernel
theorem dX45_say_29 : decode cX45_say 29 = .ok (.iload_n 2, 1) := by decide +kernel
theorem dX45_say_30 : decode cX45_say 30 = .ok (.bipush 50, 2) := by decide +kernel
theorem dX45_say_32 : decode cX45_say 32 = .ok (.idiv, 1) := by decide +kernel
theorem dX45_say_33 : decode cX45_say 33 = .ok (.iload_n 2, 1) := by decide +kernel
theorem dX45_say_34 : decode cX45_say 34 = .ok (.invokestatic 526, 3) := by decide +kernel
theorem dX45_say_37 : decode cX45_say 37 = .ok (.iload_n 2, 1) := by decide +kernel
theorem dX45_say_38 : decode cX45_say 38 = .ok (.invokestatic 529, 3) := by decide +kernel
theorem dX45_say_41 : decode cX45_say 41 = .ok (.iload 4, 2) := by decide +kernel
theorem dX45_say_43 : decode cX45_say 43 = .ok (.bipush 7, 2) := by decide +kernel
theorem dX45_say_45 : decode cX45_say 45 = .ok (.if_icmp .ge 8, 3) := by decide +kernel
theorem dX45_say_48 : decode cX45_say 48 = .ok (.iload 4, 2) := by decide +kernel
theorem dX45_say_50 : decode cX45_say 50 = .ok (.goto 5, 3) := by decide +kernel
theorem dX45_say_53 : decode cX45_say 53 = .ok (.bipush 7, 2) := by decide +kernel
theorem dX45_say_55 : decode cX45_say 55 = .ok (.iconst 0, 1) := by decide +kernel
theorem dX45_say_56 : decode cX45_say 56 = .ok (.invokevirtual 545, 3) := by decide +kernel
theorem dX45_say_59 : decode cX45_say 59 = .ok (.iconst 1, 1) := by decide +kernel
theorem dX45_say_60 : decode cX45_say 60 = .ok (.if_icmp .eq 7, 3) := by decide +kernel
theorem dX45_say_63 : decode cX45_say 63 = .ok (.ldc2_w 549, 3) := by decide +kernel
theorem dX45_say_66 : decode cX45_say 66 = .ok (.lreturn, 1) := by decide +kernel
theorem dX45_say_67 : decode cX45_say 67 = .ok (.aload_n 0, 1) := by decide +kernel
theorem dX45_say_68 : decode cX45_say 68 = .ok (.getfield 355, 3) := by decide +kernel
theorem dX45_say_71 : decode cX45_say 71 = .ok (.invokevirtual 551, 3) := by decide +kernel
theorem dX45_say_74 : decode cX45_say 74 = .ok (.istore 5, 2) := by decide +kernel
theorem dX45_say_76 : decode cX45_say 76 = .ok (.aload_n 0, 1) := by decide +kernel
theorem dX45_say_77 : decode cX45_say 77 = .ok (.getfield 355, 3) := by decide +kernel
theorem dX45_say_80 : decode cX45_say 80 = .ok (.invokevirtual 554, 3) := by decide +kernel
theorem dX45_say_83 : decode cX45_say 83 = .ok (.ifCond .eq 7, 3) := by decide +kernel
theorem dX45_say_86 : decode cX45_say 86 = .ok (.ldc2_w 557, 3) := by decide +kernel
theorem dX45_say_89 : decode cX45_say 89 = .ok (.lreturn, 1) := by decide +kernel
theorem dX45_say_90 : decode cX45_say 90 = .ok (.aload_n 0, 1) := by decide +kernel
theorem dX45_say_91 : decode cX45_say 91 = .ok (.getfield 355, 3) := by decide +kernel
theorem dX45_say_94 : decode cX45_say 94 = .ok (.iload 5, 2) := by decide +kernel
theorem dX45_say_96 : decode cX45_say 96 = .ok (.iload_n 2, 1) := by decide +kernel
theorem dX45_say_97 : decode cX45_say 97 = .ok (.iload_n 3, 1) := by decide +kernel
theorem dX45_say_98 : decode cX45_say 98 = .ok (.invokevirtual 559, 3) := by decide +kernel
theorem dX45_say_101 : decode cX45_say 101 = .ok (.iconst 1, 1) := by decide +kernel
theorem dX45_say_102 : decode cX45_say 102 = .ok (.if_icmp .eq 18, 3) := by decide +kernel
theorem dX45_say_105 : decode cX45_say 105 = .ok (.aload_n 0, 1) := by decide +kernel
theorem dX45_say_106 : decode cX45_say 106 = .ok (.getfield 355, 3) := by decide +kernel
theorem dX45_say_109 : decode cX45_say 109 = .ok (.iload 5, 2) := by decide +kernel
theorem dX45_say_111 : decode cX45_say 111 = .ok (.invokevirtual 563, 3) := by decide +kernel
theorem dX45_say_114 : decode cX45_say 114 = .ok (.istore 6, 2) := by decide +kernel
theorem dX45_say_116 : decode cX45_say 116 = .ok (.ldc2_w 566, 3) := by decide +kernel
theorem dX45_say_119 : decode cX45_say 119 = .ok (.lreturn, 1) := by decide +kernel
theorem dX45_say_120 : decode cX45_say 120 = .ok (.aload_n 0, 1) := by decide +kernel
theorem dX45_say_121 : decode cX45_say 121 = .ok (.getfield 355, 3) := by decide +kernel
theorem dX45_say_124 : decode cX45_say 124 = .ok (.iload 5, 2) := by decide +kernel
theorem dX45_say_126 : decode cX45_say 126 = .ok (.invokevirtual 568, 3) := by decide +kernel
theorem dX45_say_129 : decode cX45_say 129 = .ok (.istore 6, 2) := by decide +kernel
theorem dX45_say_131 : decode cX45_say 131 = .ok (.aload_n 0, 1) := by decide +kernel
theorem dX45_say_132 : decode cX45_say 132 = .ok (.aload_n 0, 1) := by decide +kernel
theorem dX45_say_133 : decode cX45_say 133 = .ok (.getfield 355, 3) := by decide +kernel
theorem dX45_say_136 : decode cX45_say 136 = .ok (.invokevirtual 554, 3) := by decide +kernel
theorem dX45_say_139 : decode cX45_say 139 = .ok (.ifCond .eq 7, 3) := by decide +kernel
theorem dX45_say_142 : decode cX45_say 142 = .ok (.iconst 1, 1) := by decide +kernel
theorem dX45_say_143 : decode cX45_say 143 = .ok (.goto 4, 3) := by decide +kernel
theorem dX45_say_146 : decode cX45_say 146 = .ok (.iconst 0, 1) := by decide +kernel
theorem dX45_say_147 : decode cX45_say 147 = .ok (.putfield 494, 3) := by decide +kernel
theorem dX45_say_150 : decode cX45_say 150 = .ok (.aload_n 0, 1) := by decide +kernel
theorem dX45_say_151 : decode cX45_say 151 = .ok (.getfield 494, 3) := by decide +kernel
theorem dX45_say_154 : decode cX45_say 154 = .ok (.ifCond .ne 33, 3) := by decide +kernel
theorem dX45_say_157 : decode cX45_say 157 = .ok (.aload_n 0, 1) := by decide +kernel
theorem dX45_say_158 : decode cX45_say 158 = .ok (.getfield 355, 3) := by decide +kernel
theorem dX45_say_161 : decode cX45_say 161 = .ok (.invokevirtual 518, 3) := by decide +kernel
theorem dX45_say_164 : decode cX45_say 164 = .ok (.iload 4, 2) := by decide +kernel
theorem dX45_say_166 : decode cX45_say 166 = .ok (.if_icmp .le 21, 3) := by decide +kernel
theorem dX45_say_169 : decode cX45_say 169 = .ok (.aload_n 0, 1) := by decide +kernel
theorem dX45_say_170 : decode cX45_say 170 = .ok (.iload_n 2, 1) := by decide +kernel
theorem dX45_say_171 : decode cX45_say 171 = .ok (.iload_n 3, 1) := by decide +kernel
theorem dX45_say_172 : decode cX45_say 172 = .ok (.invokevirtual 571, 3) := by decide +kernel
theorem dX45_say_175 : decode cX45_say 175 = .ok (.istore 7, 2) := by decide +kernel
theorem dX45_say_177 : decode cX45_say 177 = .ok (.aload_n 0, 1) := by decide +kernel
theorem dX45_say_178 : decode cX45_say 178 = .ok (.lconst 0, 1) := by decide +kernel
theorem dX45_say_179 : decode cX45_say 179 = .ok (.iload_n 2, 1) := by decide +kernel
theorem dX45_say_180 : decode cX45_say 180 = .ok (.i2l, 1) := by decide +kernel
theorem dX45_say_181 : decode cX45_say 181 = .ok (.iload 6, 2) := by decide +kernel
theorem dX45_say_183 : decode cX45_say 183 = .ok (.i2l, 1) := by decide +kernel
theorem dX45_say_184 : decode cX45_say 184 = .ok (.invokevirtual 575, 3) := by decide +kernel
theorem dX45_say_187 : decode cX45_say 187 = .ok (.iload 6, 2) := by decide +kernel
theorem dX45_say_189 : decode cX45_say 189 = .ok (.i2l, 1) := by decide +kernel
theorem dX45_say_190 : decode cX45_say 190 = .ok (.lreturn, 1) := by decide +kernel
abbrev cX45_head : ByteArray := prog_78_method_18_code
def yX45_head : MethodName := ⟨RX45, "head", "(I)I"⟩
theorem dX45_head_0 : decode cX45_head 0 = .ok (.iload_n 0, 1) := by decide +kernel
theorem dX45_head_1 : decode cX45_head 1 = .ok (.iconst 4, 1) := by decide +kernel
theorem dX45_head_2 : decode cX45_head 2 = .ok (.idiv, 1) := by decide +kernel
theorem dX45_head_3 : decode cX45_head 3 = .ok (.iconst 5, 1) := by decide +kernel
theorem dX45_head_4 : decode cX45_head 4 = .ok (.irem, 1) := by decide +kernel
theorem dX45_head_5 : decode cX45_head 5 = .ok (.ireturn, 1) := by decide +kernel
abbrev cX45_value : ByteArray := prog_78_method_19_code
def yX45_value : MethodName := ⟨RX45, "value", "(I)I"⟩
theorem dX45_value_0 : decode cX45_value 0 = .ok (.iload_n 0, 1) := by decide +kernel
theorem dX45_value_1 : decode cX45_value 1 = .ok (.iconst 4, 1) := by decide +kernel
theorem dX45_value_2 : decode cX45_value 2 = .ok (.irem, 1) := by decide +kernel
theorem dX45_value_3 : decode cX45_value 3 = .ok (.ireturn, 1) := by decide +kernel
abbrev cX45_lay : ByteArray := prog_78_method_21_code
def yX45_lay : MethodName := ⟨RX45, "lay", "(IZ)I"⟩
theorem dX45_lay_0 : decode cX45_lay 0 = .ok (.iload_n 2, 1) := by decide +kernel
theorem dX45_lay_1 : decode cX45_lay 1 = .ok (.ifCond .eq 25, 3) := by decide +kernel
theorem dX45_lay_4 : decode cX45_lay 4 = .ok (.aload_n 0, 1) := by decide +kernel
theorem dX45_lay_5 : decode cX45_lay 5 = .ok (.getfield 385, 3) := by decide +kernel
theorem dX45_lay_8 : decode cX45_lay 8 = .ok (.iload_n 1, 1) := by decide +kernel
theorem dX45_lay_9 : decode cX45_lay 9 = .ok (.invokestatic 523, 3) := by decide +kernel
theorem dX45_lay_12 : decode cX45_lay 12 = .ok (.iload_n 1, 1) := by decide +kernel
theorem dX45_lay_13 : decode cX45_lay 13 = .ok (.invokestatic 526, 3) := by decide +kernel
theorem dX45_lay_16 : decode cX45_lay 16 = .ok (.iload_n 1, 1) := by decide +kernel
theorem dX45_lay_17 : decode cX45_lay 17 = .ok (.invokestatic 529, 3) := by decide +kernel
theorem dX45_lay_20 : decode cX45_lay 20 = .ok (.invokevirtual 532, 3) := by decide +kernel
theorem dX45_lay_23 : decode cX45_lay 23 = .ok (.goto 22, 3) := by decide +kernel
theorem dX45_lay_26 : decode cX45_lay 26 = .ok (.aload_n 0, 1) := by decide +kernel
theorem dX45_lay_27 : decode cX45_lay 27 = .ok (.getfield 385, 3) := by decide +kernel
theorem dX45_lay_30 : decode cX45_lay 30 = .ok (.iload_n 1, 1) := by decide +kernel
theorem dX45_lay_31 : decode cX45_lay 31 = .ok (.invokestatic 523, 3) := by decide +kernel
theorem dX45_lay_34 : decode cX45_lay 34 = .ok (.iload_n 1, 1) := by decide +kernel
theorem dX45_lay_35 : decode cX45_lay 35 = .ok (.invokestatic 526, 3) := by decide +kernel
theorem dX45_lay_38 : decode cX45_lay 38 = .ok (.iload_n 1, 1) := by decide +kernel
theorem dX45_lay_39 : decode cX45_lay 39 = .ok (.invokestatic 529, 3) := by decide +kernel
theorem dX45_lay_42 : decode cX45_lay 42 = .ok (.invokevirtual 536, 3) := by decide +kernel
theorem dX45_lay_45 : decode cX45_lay 45 = .ok (.istore_n 3, 1) := by decide +kernel
theorem dX45_lay_46 : decode cX45_lay 46 = .ok (.iload_n 2, 1) := by decide +kernel
theorem dX45_lay_47 : decode cX45_lay 47 = .ok (.ifCond .eq 25, 3) := by decide +kernel
theorem dX45_lay_50 : decode cX45_lay 50 = .ok (.aload_n 0, 1) := by decide +kernel
theorem dX45_lay_51 : decode cX45_lay 51 = .ok (.getfield 397, 3) := by decide +kernel
theorem dX45_lay_54 : decode cX45_lay 54 = .ok (.iload_n 1, 1) := by decide +kernel
theorem dX45_lay_55 : decode cX45_lay 55 = .ok (.invokestatic 526, 3) := by decide +kernel
theorem dX45_lay_58 : decode cX45_lay 58 = .ok (.iload_n 1, 1) := by decide +kernel
theorem dX45_lay_59 : decode cX45_lay 59 = .ok (.invokestatic 523, 3) := by decide +kernel
theorem dX45_lay_62 : decode cX45_lay 62 = .ok (.iload_n 1, 1) := by decide +kernel
theorem dX45_lay_63 : decode cX45_lay 63 = .ok (.invokestatic 529, 3) := by decide +kernel
theorem dX45_lay_66 : decode cX45_lay 66 = .ok (.invokevirtual 539, 3) := by decide +kernel
theorem dX45_lay_69 : decode cX45_lay 69 = .ok (.goto 22, 3) := by decide +kernel
theorem dX45_lay_72 : decode cX45_lay 72 = .ok (.aload_n 0, 1) := by decide +kernel
theorem dX45_lay_73 : decode cX45_lay 73 = .ok (.getfield 397, 3) := by decide +kernel
theorem dX45_lay_76 : decode cX45_lay 76 = .ok (.iload_n 1, 1) := by decide +kernel
theorem dX45_lay_77 : decode cX45_lay 77 = .ok (.invokestatic 526, 3) := by decide +kernel
theorem dX45_lay_80 : decode cX45_lay 80 = .ok (.iload_n 1, 1) := by decide +kernel
theorem dX45_lay_81 : decode cX45_lay 81 = .ok (.invokestatic 523, 3) := by decide +kernel
theorem dX45_lay_84 : decode cX45_lay 84 = .ok (.iload_n 1, 1) := by decide +kernel
theorem dX45_lay_85 : decode cX45_lay 85 = .ok (.invokestatic 529, 3) := by decide +kernel
theorem dX45_lay_88 : decode cX45_lay 88 = .ok (.invokevirtual 542, 3) := by decide +kernel
theorem dX45_lay_91 : decode cX45_lay 91 = .ok (.istore 4, 2) := by decide +kernel
theorem dX45_lay_93 : decode cX45_lay 93 = .ok (.iload_n 3, 1) := by decide +kernel
theorem dX45_lay_94 : decode cX45_lay 94 = .ok (.ireturn, 1) := by decide +kernel
abbrev cX45_thing : ByteArray := prog_78_method_17_code
def yX45_thing : MethodName := ⟨RX45, "thing", "(I)I"⟩
theorem dX45_thing_0 : decode cX45_thing 0 = .ok (.iload_n 0, 1) := by decide +kernel
theorem dX45_thing_1 : decode cX45_thing 1 = .ok (.bipush 20, 2) := by decide +kernel
theorem dX45_thing_3 : decode cX45_thing 3 = .ok (.idiv, 1) := by decide +kernel
theorem dX45_thing_4 : decode cX45_thing 4 = .ok (.ireturn, 1) := by decide +kernel
abbrev cX45_enter : ByteArray := prog_78_method_16_code
def yX45_enter : MethodName := ⟨RX45, "enter", "(JJJ)V"⟩
theorem dX45_enter_0 : decode cX45_enter 0 = .ok (.aload_n 0, 1) := by decide +kernel
theorem dX45_enter_1 : decode cX45_enter 1 = .ok (.getfield 515, 3) := by decide +kernel
theorem dX45_enter_4 : decode cX45_enter 4 = .ok (.sipush 400, 3) := by decide +kernel
theorem dX45_enter_7 : decode cX45_enter 7 = .ok (.if_icmp .ge 44, 3) := by decide +kernel
theorem dX45_enter_10 : decode cX45_enter 10 = .ok (.aload_n 0, 1) := by decide +kernel
theorem dX45_enter_11 : decode cX45_enter 11 = .ok (.getfield 439, 3) := by decide +kernel
theorem dX45_enter_14 : decode cX45_enter 14 = .ok (.iconst 3, 1) := by decide +kernel
theorem dX45_enter_15 : decode cX45_enter 15 = .ok (.aload_n 0, 1) := by decide +kernel
theorem dX45_enter_16 : decode cX45_enter 16 = .ok (.getfield 515, 3) := by decide +kernel
theorem dX45_enter_19 : decode cX45_enter 19 = .ok (.imul, 1) := by decide +kernel
theorem dX45_enter_20 : decode cX45_enter 20 = .ok (.lload_n 1, 1) := by decide +kernel
theorem dX45_enter_21 : decode cX45_enter 21 = .ok (.lastore, 1) := by decide +kernel
theorem dX45_enter_22 : decode cX45_enter 22 = .ok (.aload_n 0, 1) := by decide +kernel
theorem dX45_enter_23 : decode cX45_enter 23 = .ok (.getfield 439, 3) := by decide +kernel
theorem dX45_enter_26 : decode cX45_enter 26 = .ok (.iconst 3, 1) := by decide +kernel
theorem dX45_enter_27 : decode cX45_enter 27 = .ok (.aload_n 0, 1) := by decide +kernel
theorem dX45_enter_28 : decode cX45_enter 28 = .ok (.getfield 515, 3) := by decide +kernel
theorem dX45_enter_31 : decode cX45_enter 31 = .ok (.imul, 1) := by decide +kernel
theorem dX45_enter_32 : decode cX45_enter 32 = .ok (.iconst 1, 1) := by decide +kernel
theorem dX45_enter_33 : decode cX45_enter 33 = .ok (.iadd, 1) := by decide +kernel
theorem dX45_enter_34 : decode cX45_enter 34 = .ok (.lload_n 3, 1) := by decide +kernel
theorem dX45_enter_35 : decode cX45_enter 35 = .ok (.lastore, 1) := by decide +kernel
theorem dX45_enter_36 : decode cX45_enter 36 = .ok (.aload_n 0, 1) := by decide +kernel
theorem dX45_enter_37 : decode cX45_enter 37 = .ok (.getfield 439, 3) := by decide +kernel
theorem dX45_enter_40 : decode cX45_enter 40 = .ok (.iconst 3, 1) := by decide +kernel
theorem dX45_enter_41 : decode cX45_enter 41 = .ok (.aload_n 0, 1) := by decide +kernel
theorem dX45_enter_42 : decode cX45_enter 42 = .ok (.getfield 515, 3) := by decide +kernel
theorem dX45_enter_45 : decode cX45_enter 45 = .ok (.imul, 1) := by decide +kernel
theorem dX45_enter_46 : decode cX45_enter 46 = .ok (.iconst 2, 1) := by decide +kernel
theorem dX45_enter_47 : decode cX45_enter 47 = .ok (.iadd, 1) := by decide +kernel
theorem dX45_enter_48 : decode cX45_enter 48 = .ok (.lload 5, 2) := by decide +kernel
theorem dX45_enter_50 : decode cX45_enter 50 = .ok (.lastore, 1) := by decide +kernel
theorem dX45_enter_51 : decode cX45_enter 51 = .ok (.aload_n 0, 1) := by decide +kernel
theorem dX45_enter_52 : decode cX45_enter 52 = .ok (.dup, 1) := by decide +kernel
theorem dX45_enter_53 : decode cX45_enter 53 = .ok (.getfield 515, 3) := by decide +kernel
theorem dX45_enter_56 : decode cX45_enter 56 = .ok (.iconst 1, 1) := by decide +kernel
theorem dX45_enter_57 : decode cX45_enter 57 = .ok (.iadd, 1) := by decide +kernel
theorem dX45_enter_58 : decode cX45_enter 58 = .ok (.putfield 515, 3) := by decide +kernel
theorem dX45_enter_61 : decode cX45_enter 61 = .ok (.return_, 1) := by decide +kernel
abbrev cX45_level : ByteArray := prog_78_method_23_code
def yX45_level : MethodName := ⟨RX45, "level", "()J"⟩
theorem dX45_level_0 : decode cX45_level 0 = .ok (.iconst 0, 1) := by decide +kernel
theorem dX45_level_1 : decode cX45_level 1 = .ok (.istore_n 1, 1) := by decide +kernel
theorem dX45_level_2 : decode cX45_level 2 = .ok (.iconst 0, 1) := by decide +kernel
theorem dX45_level_3 : decode cX45_level 3 = .ok (.istore_n 2, 1) := by decide +kernel
theorem dX45_level_4 : decode cX45_level 4 = .ok (.iload_n 2, 1) := by decide +kernel
theorem dX45_level_5 : decode cX45_level 5 = .ok (.sipush 200, 3) := by decide +kernel
theorem dX45_level_8 : decode cX45_level 8 = .ok (.if_icmp .ge 31, 3) := by decide +kernel
theorem dX45_level_11 : decode cX45_level 11 = .ok (.aload_n 0, 1) := by decide +kernel
theorem dX45_level_12 : decode cX45_level 12 = .ok (.iload_n 2, 1) := by decide +kernel
theorem dX45_level_13 : decode cX45_level 13 = .ok (.aload_n 0, 1) := by decide +kernel
theorem dX45_level_14 : decode cX45_level 14 = .ok (.iload_n 2, 1) := by decide +kernel
theorem dX45_level_15 : decode cX45_level 15 = .ok (.invokevirtual 579, 3) := by decide +kernel
theorem dX45_level_18 : decode cX45_level 18 = .ok (.invokevirtual 571, 3) := by decide +kernel
theorem dX45_level_21 : decode cX45_level 21 = .ok (.iconst 1, 1) := by decide +kernel
theorem dX45_level_22 : decode cX45_level 22 = .ok (.if_icmp .ne 9, 3) := by decide +kernel
theorem dX45_level_25 : decode cX45_level 25 = .ok (.iload_n 1, 1) := by decide +kernel
theorem dX45_level_26 : decode cX45_level 26 = .ok (.iconst 1, 1) := by decide +kernel
theorem dX45_level_27 : decode cX45_level 27 = .ok (.iadd, 1) := by decide +kernel
theorem dX45_level_28 : decode cX45_level 28 = .ok (.goto 4, 3) := by decide +kernel
theorem dX45_level_31 : decode cX45_level 31 = .ok (.iload_n 1, 1) := by decide +kernel
theorem dX45_level_32 : decode cX45_level 32 = .ok (.istore_n 1, 1) := by decide +kernel
theorem dX45_level_33 : decode cX45_level 33 = .ok (.iinc 2 1, 3) := by decide +kernel
theorem dX45_level_36 : decode cX45_level 36 = .ok (.goto (-32), 3) := by decide +kernel
theorem dX45_level_39 : decode cX45_level 39 = .ok (.iload_n 1, 1) := by decide +kernel
theorem dX45_level_40 : decode cX45_level 40 = .ok (.i2l, 1) := by decide +kernel
theorem dX45_level_41 : decode cX45_level 41 = .ok (.lreturn, 1) := by decide +kernel
abbrev cX45_isThere : ByteArray := prog_78_method_20_code
def yX45_isThere : MethodName := ⟨RX45, "isThere", "(I)Z"⟩
theorem dX45_isThere_0 : decode cX45_isThere 0 = .ok (.aload_n 0, 1) := by decide +kernel
theorem dX45_isThere_1 : decode cX45_isThere 1 = .ok (.getfield 355, 3) := by decide +kernel
theorem dX45_isThere_4 : decode cX45_isThere 4 = .ok (.aload_n 0, 1) := by decide +kernel
theorem dX45_isThere_5 : decode cX45_isThere 5 = .ok (.getfield 355, 3) := by decide +kernel
theorem dX45_isThere_8 : decode cX45_isThere 8 = .ok (.invokevirtual 518, 3) := by decide +kernel
theorem dX45_isThere_11 : decode cX45_isThere 11 = .ok (.iload_n 1, 1) := by decide +kernel
theorem dX45_isThere_12 : decode cX45_isThere 12 = .ok (.invokevirtual 521, 3) := by decide +kernel
theorem dX45_isThere_15 : decode cX45_isThere 15 = .ok (.ireturn, 1) := by decide +kernel
abbrev cX45_publish : ByteArray := prog_78_method_24_code
def yX45_publish : MethodName := ⟨RX45, "publish", "()J"⟩
theorem dX45_publish_0 : decode cX45_publish 0 = .ok (.aload_n 0, 1) := by decide +kernel
theorem dX45_publish_1 : decode cX45_publish 1 = .ok (.getfield 349, 3) := by decide +kernel
theorem dX45_publish_4 : decode cX45_publish 4 = .ok (.invokevirtual 583, 3) := by decide +kernel
theorem dX45_publish_7 : decode cX45_publish 7 = .ok (.istore_n 1, 1) := by decide +kernel
theorem dX45_publish_8 : decode cX45_publish 8 = .ok (.iload_n 1, 1) := by decide +kernel
theorem dX45_publish_9 : decode cX45_publish 9 = .ok (.ifCond .ge 7, 3) := by decide +kernel
theorem dX45_publish_12 : decode cX45_publish 12 = .ok (.ldc2_w 506, 3) := by decide +kernel
theorem dX45_publish_15 : decode cX45_publish 15 = .ok (.lreturn, 1) := by decide +kernel
theorem dX45_publish_16 : decode cX45_publish 16 = .ok (.iconst 0, 1) := by decide +kernel
theorem dX45_publish_17 : decode cX45_publish 17 = .ok (.istore_n 2, 1) := by decide +kernel
theorem dX45_publish_18 : decode cX45_publish 18 = .ok (.iload_n 2, 1) := by decide +kernel
theorem dX45_publish_19 : decode cX45_publish 19 = .ok (.iconst 4, 1) := by decide +kernel
theorem dX45_publish_20 : decode cX45_publish 20 = .ok (.if_icmp .ge 17, 3) := by decide +kernel
theorem dX45_publish_23 : decode cX45_publish 23 = .ok (.aload_n 0, 1) := by decide +kernel
theorem dX45_publish_24 : decode cX45_publish 24 = .ok (.getfield 349, 3) := by decide +kernel
theorem dX45_publish_27 : decode cX45_publish 27 = .ok (.invokevirtual 586, 3) := by decide +kernel
theorem dX45_publish_30 : decode cX45_publish 30 = .ok (.istore_n 3, 1) := by decide +kernel
theorem dX45_publish_31 : decode cX45_publish 31 = .ok (.iinc 2 1, 3) := by decide +kernel
theorem dX45_publish_34 : decode cX45_publish 34 = .ok (.goto (-16), 3) := by decide +kernel
theorem dX45_publish_37 : decode cX45_publish 37 = .ok (.iconst 0, 1) := by decide +kernel
theorem dX45_publish_38 : decode cX45_publish 38 = .ok (.istore_n 2, 1) := by decide +kernel
theorem dX45_publish_39 : decode cX45_publish 39 = .ok (.iload_n 2, 1) := by decide +kernel
theorem dX45_publish_40 : decode cX45_publish 40 = .ok (.sipush 200, 3) := by decide +kernel
theorem dX45_publish_43 : decode cX45_publish 43 = .ok (.if_icmp .ge 64, 3) := by decide +kernel
theorem dX45_publish_46 : decode cX45_publish 46 = .ok (.aload_n 0, 1) := by decide +kernel
theorem dX45_publish_47 : decode cX45_publish 47 = .ok (.iload_n 2, 1) := by decide +kernel
theorem dX45_publish_48 : decode cX45_publish 48 = .ok (.invokevirtual 579, 3) := by decide +kernel
theorem dX45_publish_51 : decode cX45_publish 51 = .ok (.ifCond .eq 50, 3) := by decide +kernel
theorem dX45_publish_54 : decode cX45_publish 54 = .ok (.aload_n 0, 1) := by decide +kernel
theorem dX45_publish_55 : decode cX45_publish 55 = .ok (.getfield 349, 3) := by decide +kernel
theorem dX45_publish_58 : decode cX45_publish 58 = .ok (.iload_n 2, 1) := by decide +kernel
theorem dX45_publish_59 : decode cX45_publish 59 = .ok (.invokestatic 523, 3) := by decide +kernel
theorem dX45_publish_62 : decode cX45_publish 62 = .ok (.bipush 6, 2) := by decide +kernel
theorem dX45_publish_64 : decode cX45_publish 64 = .ok (.if_icmp .ge 12, 3) := by decide +kernel
theorem dX45_publish_67 : decode cX45_publish 67 = .ok (.iload_n 2, 1) := by decide +kernel
theorem dX45_publish_68 : decode cX45_publish 68 = .ok (.invokestatic 523, 3) := by decide +kernel
theorem dX45_publish_71 : decode cX45_publish 71 = .ok (.iconst 1, 1) := by decide +kernel
theorem dX45_publish_72 : decode cX45_publish 72 = .ok (.iadd, 1) := by decide +kernel
theorem dX45_publish_73 : decode cX45_publish 73 = .ok (.goto 9, 3) := by decide +kernel
theorem dX45_publish_76 : decode cX45_publish 76 = .ok (.iconst 5, 1) := by decide +kernel
theorem dX45_publish_77 : decode cX45_publish 77 = .ok (.iload_n 2, 1) := by decide +kernel
theorem dX45_publish_78 : decode cX45_publish 78 = .ok (.invokestatic 523, 3) := by decide +kernel
theorem dX45_publish_81 : decode cX45_publish 81 = .ok (.isub, 1) := by decide +kernel
theorem dX45_publish_82 : decode cX45_publish 82 = .ok (.bipush 100, 2) := by decide +kernel
theorem dX45_publish_84 : decode cX45_publish 84 = .ok (.iload_n 2, 1) := by decide +kernel
theorem dX45_publish_85 : decode cX45_publish 85 = .ok (.invokestatic 526, 3) := by decide +kernel
theorem dX45_publish_88 : decode cX45_publish 88 = .ok (.iadd, 1) := by decide +kernel
theorem dX45_publish_89 : decode cX45_publish 89 = .ok (.sipush 200, 3) := by decide +kernel
theorem dX45_publish_92 : decode cX45_publish 92 = .ok (.iload_n 2, 1) := by decide +kernel
theorem dX45_publish_93 : decode cX45_publish 93 = .ok (.invokestatic 529, 3) := by decide +kernel
theorem dX45_publish_96 : decode cX45_publish 96 = .ok (.iadd, 1) := by decide +kernel
theorem dX45_publish_97 : decode cX45_publish 97 = .ok (.invokevirtual 589, 3) := by decide +kernel
theorem dX45_publish_100 : decode cX45_publish 100 = .ok (.istore_n 3, 1) := by decide +kernel
theorem dX45_publish_101 : decode cX45_publish 101 = .ok (.iinc 2 1, 3) := by decide +kernel
theorem dX45_publish_104 : decode cX45_publish 104 = .ok (.goto (-65), 3) := by decide +kernel
theorem dX45_publish_107 : decode cX45_publish 107 = .ok (.aload_n 0, 1) := by decide +kernel
theorem dX45_publish_108 : decode cX45_publish 108 = .ok (.lconst 1, 1) := by decide +kernel
theorem dX45_publish_109 : decode cX45_publish 109 = .ok (.iload_n 1, 1) := by decide +kernel
theorem dX45_publish_110 : decode cX45_publish 110 = .ok (.i2l, 1) := by decide +kernel
theorem dX45_publish_111 : decode cX45_publish 111 = .ok (.aload_n 0, 1) := by decide +kernel
theorem dX45_publish_112 : decode cX45_publish 112 = .ok (.getfield 349, 3) := by decide +kernel
theorem dX45_publish_115 : decode cX45_publish 115 = .ok (.ldc2_w 592, 3) := by decide +kernel
theorem dX45_publish_118 : decode cX45_publish 118 = .ok (.invokevirtual 594, 3) := by decide +kernel
theorem dX45_publish_121 : decode cX45_publish 121 = .ok (.i2l, 1) := by decide +kernel
theorem dX45_publish_122 : decode cX45_publish 122 = .ok (.invokevirtual 575, 3) := by decide +kernel
theorem dX45_publish_125 : decode cX45_publish 125 = .ok (.aload_n 0, 1) := by decide +kernel
theorem dX45_publish_126 : decode cX45_publish 126 = .ok (.getfield 349, 3) := by decide +kernel
theorem dX45_publish_129 : decode cX45_publish 129 = .ok (.iload_n 1, 1) := by decide +kernel
theorem dX45_publish_130 : decode cX45_publish 130 = .ok (.invokevirtual 598, 3) := by decide +kernel
theorem dX45_publish_133 : decode cX45_publish 133 = .ok (.i2l, 1) := by decide +kernel
theorem dX45_publish_134 : decode cX45_publish 134 = .ok (.lreturn, 1) := by decide +kernel
abbrev cX45_under : ByteArray := prog_78_method_25_code
def yX45_under : MethodName := ⟨RX45, "under", "(II)J"⟩
theorem dX45_under_0 : decode cX45_under 0 = .ok (.aload_n 0, 1) := by decide +kernel
theorem dX45_under_1 : decode cX45_under 1 = .ok (.getfield 379, 3) := by decide +kernel
theorem dX45_under_4 : decode cX45_under 4 = .ok (.iload_n 1, 1) := by decide +kernel
theorem dX45_under_5 : decode cX45_under 5 = .ok (.iconst (-1), 1) := by decide +kernel
theorem dX45_under_6 : decode cX45_under 6 = .ok (.iload_n 2, 1) := by decide +kernel
theorem dX45_under_7 : decode cX45_under 7 = .ok (.invokevirtual 601, 3) := by decide +kernel
theorem dX45_under_10 : decode cX45_under 10 = .ok (.istore_n 3, 1) := by decide +kernel
theorem dX45_under_11 : decode cX45_under 11 = .ok (.iload_n 3, 1) := by decide +kernel
theorem dX45_under_12 : decode cX45_under 12 = .ok (.ifCond .lt 37, 3) := by decide +kernel
theorem dX45_under_15 : decode cX45_under 15 = .ok (.aload_n 0, 1) := by decide +kernel
theorem dX45_under_16 : decode cX45_under 16 = .ok (.getfield 385, 3) := by decide +kernel
theorem dX45_under_19 : decode cX45_under 19 = .ok (.iload_n 1, 1) := by decide +kernel
theorem dX45_under_20 : decode cX45_under 20 = .ok (.iload_n 2, 1) := by decide +kernel
theorem dX45_under_21 : decode cX45_under 21 = .ok (.invokevirtual 604, 3) := by decide +kernel
theorem dX45_under_24 : decode cX45_under 24 = .ok (.istore 4, 2) := by decide +kernel
theorem dX45_under_26 : decode cX45_under 26 = .ok (.aload_n 0, 1) := by decide +kernel
theorem dX45_under_27 : decode cX45_under 27 = .ok (.getfield 403, 3) := by decide +kernel
theorem dX45_under_30 : decode cX45_under 30 = .ok (.iconst 0, 1) := by decide +kernel
theorem dX45_under_31 : decode cX45_under 31 = .ok (.iload_n 1, 1) := by decide +kernel
theorem dX45_under_32 : decode cX45_under 32 = .ok (.iload_n 2, 1) := by decide +kernel
theorem dX45_under_33 : decode cX45_under 33 = .ok (.invokevirtual 608, 3) := by decide +kernel
theorem dX45_under_36 : decode cX45_under 36 = .ok (.istore 5, 2) := by decide +kernel
theorem dX45_under_38 : decode cX45_under 38 = .ok (.aload_n 0, 1) := by decide +kernel
theorem dX45_under_39 : decode cX45_under 39 = .ok (.ldc2_w 609, 3) := by decide +kernel
theorem dX45_under_42 : decode cX45_under 42 = .ok (.iload_n 1, 1) := by decide +kernel
theorem dX45_under_43 : decode cX45_under 43 = .ok (.i2l, 1) := by decide +kernel
theorem dX45_under_44 : decode cX45_under 44 = .ok (.iload_n 2, 1) := by decide +kernel
theorem dX45_under_45 : decode cX45_under 45 = .ok (.i2l, 1) := by decide +kernel
theorem dX45_under_46 : decode cX45_under 46 = .ok (.invokevirtual 575, 3) := by decide +kernel
theorem dX45_under_49 : decode cX45_under 49 = .ok (.iload_n 3, 1) := by decide +kernel
theorem dX45_under_50 : decode cX45_under 50 = .ok (.i2l, 1) := by decide +kernel
theorem dX45_under_51 : decode cX45_under 51 = .ok (.lreturn, 1) := by decide +kernel
abbrev cX45_is : ByteArray := prog_78_method_26_code
def yX45_is : MethodName := ⟨RX45, "is", "(II)J"⟩
theorem dX45_is_0 : decode cX45_is 0 = .ok (.aload_n 0, 1) := by decide +kernel
theorem dX45_is_1 : decode cX45_is 1 = .ok (.getfield 379, 3) := by decide +kernel
theorem dX45_is_4 : decode cX45_is 4 = .ok (.iload_n 1, 1) := by decide +kernel
theorem dX45_is_5 : decode cX45_is 5 = .ok (.iload_n 2, 1) := by decide +kernel
theorem dX45_is_6 : decode cX45_is 6 = .ok (.invokevirtual 611, 3) := by decide +kernel
theorem dX45_is_9 : decode cX45_is 9 = .ok (.istore_n 3, 1) := by decide +kernel
theorem dX45_is_10 : decode cX45_is 10 = .ok (.iload_n 3, 1) := by decide +kernel
theorem dX45_is_11 : decode cX45_is 11 = .ok (.ifCond .lt 44, 3) := by decide +kernel
theorem dX45_is_14 : decode cX45_is 14 = .ok (.aload_n 0, 1) := by decide +kernel
theorem dX45_is_15 : decode cX45_is 15 = .ok (.getfield 403, 3) := by decide +kernel
theorem dX45_is_18 : decode cX45_is 18 = .ok (.iconst 0, 1) := by decide +kernel
theorem dX45_is_19 : decode cX45_is 19 = .ok (.iload_n 2, 1) := by decide +kernel
theorem dX45_is_20 : decode cX45_is 20 = .ok (.iload_n 1, 1) := by decide +kernel
theorem dX45_is_21 : decode cX45_is 21 = .ok (.iconst 0, 1) := by decide +kernel
theorem dX45_is_22 : decode cX45_is 22 = .ok (.invokevirtual 613, 3) := by decide +kernel
theorem dX45_is_25 : decode cX45_is 25 = .ok (.istore 4, 2) := by decide +kernel
theorem dX45_is_27 : decode cX45_is 27 = .ok (.aload_n 0, 1) := by decide +kernel
theorem dX45_is_28 : decode cX45_is 28 = .ok (.getfield 385, 3) := by decide +kernel
theorem dX45_is_31 : decode cX45_is 31 = .ok (.iload_n 1, 1) := by decide +kernel
theorem dX45_is_32 : decode cX45_is 32 = .ok (.iconst 0, 1) := by decide +kernel
theorem dX45_is_33 : decode cX45_is 33 = .ok (.iload_n 2, 1) := by decide +kernel
theorem dX45_is_34 : decode cX45_is 34 = .ok (.invokevirtual 532, 3) := by decide +kernel
theorem dX45_is_37 : decode cX45_is 37 = .ok (.istore 5, 2) := by decide +kernel
theorem dX45_is_39 : decode cX45_is 39 = .ok (.iload_n 3, 1) := by decide +kernel
theorem dX45_is_40 : decode cX45_is 40 = .ok (.iconst 1, 1) := by decide +kernel
theorem dX45_is_41 : decode cX45_is 41 = .ok (.if_icmp .ne 14, 3) := by decide +kernel
theorem dX45_is_44 : decode cX45_is 44 = .ok (.aload_n 0, 1) := by decide +kernel
theorem dX45_is_45 : decode cX45_is 45 = .ok (.ldc2_w 616, 3) := by decide +kernel
theorem dX45_is_48 : decode cX45_is 48 = .ok (.iload_n 1, 1) := by decide +kernel
theorem dX45_is_49 : decode cX45_is 49 = .ok (.i2l, 1) := by decide +kernel
theorem dX45_is_50 : decode cX45_is 50 = .ok (.iload_n 2, 1) := by decide +kernel
theorem dX45_is_51 : decode cX45_is 51 = .ok (.i2l, 1) := by decide +kernel
theorem dX45_is_52 : decode cX45_is 52 = .ok (.invokevirtual 575, 3) := by decide +kernel
theorem dX45_is_55 : decode cX45_is 55 = .ok (.iload_n 3, 1) := by decide +kernel
theorem dX45_is_56 : decode cX45_is 56 = .ok (.i2l, 1) := by decide +kernel
theorem dX45_is_57 : decode cX45_is 57 = .ok (.lreturn, 1) := by decide +kernel
abbrev cX45_order : ByteArray := prog_78_method_27_code
def yX45_order : MethodName := ⟨RX45, "order", "()J"⟩
theorem dX45_order_0 : decode cX45_order 0 = .ok (.aload_n 0, 1) := by decide +kernel
theorem dX45_order_1 : decode cX45_order 1 = .ok (.getfield 379, 3) := by decide +kernel
theorem dX45_order_4 : decode cX45_order 4 = .ok (.invokevirtual 618, 3) := by decide +kernel
theorem dX45_order_7 : decode cX45_order 7 = .ok (.istore_n 1, 1) := by decide +kernel
theorem dX45_order_8 : decode cX45_order 8 = .ok (.iconst 0, 1) := by decide +kernel
theorem dX45_order_9 : decode cX45_order 9 = .ok (.istore_n 2, 1) := by decide +kernel
theorem dX45_order_10 : decode cX45_order 10 = .ok (.iconst 0, 1) := by decide +kernel
theorem dX45_order_11 : decode cX45_order 11 = .ok (.istore_n 3, 1) := by decide +kernel
theorem dX45_order_12 : decode cX45_order 12 = .ok (.iload_n 3, 1) := by decide +kernel
theorem dX45_order_13 : decode cX45_order 13 = .ok (.aload_n 0, 1) := by decide +kernel
theorem dX45_order_14 : decode cX45_order 14 = .ok (.getfield 379, 3) := by decide +kernel
theorem dX45_order_17 : decode cX45_order 17 = .ok (.iconst 0, 1) := by decide +kernel
theorem dX45_order_18 : decode cX45_order 18 = .ok (.invokevirtual 621, 3) := by decide +kernel
theorem dX45_order_21 : decode cX45_order 21 = .ok (.if_icmp .ge 70, 3) := by decide +kernel
theorem dX45_order_24 : decode cX45_order 24 = .ok (.iconst 0, 1) := by decide +kernel
theorem dX45_order_25 : decode cX45_order 25 = .ok (.istore 4, 2) := by decide +kernel
theorem dX45_order_27 : decode cX45_order 27 = .ok (.aload_n 0, 1) := by decide +kernel
theorem dX45_order_28 : decode cX45_order 28 = .ok (.getfield 379, 3) := by decide +kernel
theorem dX45_order_31 : decode cX45_order 31 = .ok (.iload_n 3, 1) := by decide +kernel
theorem dX45_order_32 : decode cX45_order 32 = .ok (.iconst 0, 1) := by decide +kernel
theorem dX45_order_33 : decode cX45_order 33 = .ok (.invokevirtual 624, 3) := by decide +kernel
theorem dX45_order_36 : decode cX45_order 36 = .ok (.istore 5, 2) := by decide +kernel
theorem dX45_order_38 : decode cX45_order 38 = .ok (.iload 5, 2) := by decide +kernel
theorem dX45_order_40 : decode cX45_order 40 = .ok (.ifCond .lt 45, 3) := by decide +kernel
theorem dX45_order_43 : decode cX45_order 43 = .ok (.aload_n 0, 1) := by decide +kernel
theorem dX45_order_44 : decode cX45_order 44 = .ok (.getfield 397, 3) := by decide +kernel
theorem dX45_order_47 : decode cX45_order 47 = .ok (.bipush 15, 2) := by decide +kernel
theorem dX45_order_49 : decode cX45_order 49 = .ok (.iload_n 3, 1) := by decide +kernel
theorem dX45_order_50 : decode cX45_order 50 = .ok (.iload 5, 2) := by decide +kernel
theorem dX45_order_52 : decode cX45_order 52 = .ok (.invokevirtual 539, 3) := by decide +kernel
theorem dX45_order_55 : decode cX45_order 55 = .ok (.iconst 1, 1) := by decide +kernel
theorem dX45_order_56 : decode cX45_order 56 = .ok (.if_icmp .ne 9, 3) := by decide +kernel
theorem dX45_order_59 : decode cX45_order 59 = .ok (.iload_n 2, 1) := by decide +kernel
theorem dX45_order_60 : decode cX45_order 60 = .ok (.iconst 1, 1) := by decide +kernel
theorem dX45_order_61 : decode cX45_order 61 = .ok (.iadd, 1) := by decide +kernel
theorem dX45_order_62 : decode cX45_order 62 = .ok (.goto 4, 3) := by decide +kernel
theorem dX45_order_65 : decode cX45_order 65 = .ok (.iload_n 2, 1) := by decide +kernel
theorem dX45_order_66 : decode cX45_order 66 = .ok (.istore_n 2, 1) := by decide +kernel
theorem dX45_order_67 : decode cX45_order 67 = .ok (.iinc 4 1, 3) := by decide +kernel
theorem dX45_order_70 : decode cX45_order 70 = .ok (.aload_n 0, 1) := by decide +kernel
theorem dX45_order_71 : decode cX45_order 71 = .ok (.getfield 379, 3) := by decide +kernel
theorem dX45_order_74 : decode cX45_order 74 = .ok (.iload_n 3, 1) := by decide +kernel
theorem dX45_order_75 : decode cX45_order 75 = .ok (.iload 4, 2) := by decide +kernel
theorem dX45_order_77 : decode cX45_order 77 = .ok (.invokevirtual 624, 3) := by decide +kernel
theorem dX45_order_80 : decode cX45_order 80 = .ok (.istore 5, 2) := by decide +kernel
theorem dX45_order_82 : decode cX45_order 82 = .ok (.goto (-44), 3) := by decide +kernel
theorem dX45_order_85 : decode cX45_order 85 = .ok (.iinc 3 1, 3) := by decide +kernel
theorem dX45_order_88 : decode cX45_order 88 = .ok (.goto (-76), 3) := by decide +kernel
theorem dX45_order_91 : decode cX45_order 91 = .ok (.iload_n 2, 1) := by decide +kernel
theorem dX45_order_92 : decode cX45_order 92 = .ok (.i2l, 1) := by decide +kernel
theorem dX45_order_93 : decode cX45_order 93 = .ok (.lreturn, 1) := by decide +kernel
abbrev cX45_take : ByteArray := prog_78_method_28_code
def yX45_take : MethodName := ⟨RX45, "take", "(III)J"⟩
theorem dX45_take_0 : decode cX45_take 0 = .ok (.iload_n 1, 1) := by decide +kernel
theorem dX45_take_1 : decode cX45_take 1 = .ok (.ifCond .lt 17, 3) := by decide +kernel
theorem dX45_take_4 : decode cX45_take 4 = .ok (.iload_n 1, 1) := by decide +kernel
theorem dX45_take_5 : decode cX45_take 5 = .ok (.iconst 5, 1) := by decide +kernel
theorem dX45_take_6 : decode cX45_take 6 = .ok (.if_icmp .gt 12, 3) := by decide +kernel
theorem dX45_take_9 : decode cX45_take 9 = .ok (.iload_n 2, 1) := by decide +kernel
theorem dX45_take_10 : decode cX45_take 10 = .ok (.ifCond .lt 8, 3) := by decide +kernel
theorem dX45_take_13 : decode cX45_take 13 = .ok (.iload_n 2, 1) := by decide +kernel
theorem dX45_take_14 : decode cX45_take 14 = .ok (.iconst 5, 1) := by decide +kernel
theorem dX45_take_15 : decode cX45_take 15 = .ok (.if_icmp .le 7, 3) := by decide +kernel
theorem dX45_take_18 : decode cX45_take 18 = .ok (.ldc2_w 549, 3) := by decide +kernel
theorem dX45_take_21 : decode cX45_take 21 = .ok (.lreturn, 1) := by decide +kernel
theorem dX45_take_22 : decode cX45_take 22 = .ok (.aload_n 0, 1) := by decide +kernel
theorem dX45_take_23 : decode cX45_take 23 = .ok (.getfield 391, 3) := by decide +kernel
theorem dX45_take_26 : decode cX45_take 26 = .ok (.invokevirtual 627, 3) := by decide +kernel
theorem dX45_take_29 : decode cX45_take 29 = .ok (.istore 4, 2) := by decide +kernel
theorem dX45_take_31 : decode cX45_take 31 = .ok (.iconst 0, 1) := by decide +kernel
theorem dX45_take_32 : decode cX45_take 32 = .ok (.istore 5, 2) := by decide +kernel
theorem dX45_take_34 : decode cX45_take 34 = .ok (.iconst 0, 1) := by decide +kernel
theorem dX45_take_35 : decode cX45_take 35 = .ok (.istore 6, 2) := by decide +kernel
theorem dX45_take_37 : decode cX45_take 37 = .ok (.iload 6, 2) := by decide +kernel
theorem dX45_take_39 : decode cX45_take 39 = .ok (.iload 4, 2) := by decide +kernel
theorem dX45_take_41 : decode cX45_take 41 = .ok (.if_icmp .ge 141, 3) := by decide +kernel
theorem dX45_take_44 : decode cX45_take 44 = .ok (.aload_n 0, 1) := by decide +kernel
theorem dX45_take_45 : decode cX45_take 45 = .ok (.getfield 391, 3) := by decide +kernel
theorem dX45_take_48 : decode cX45_take 48 = .ok (.iload 6, 2) := by decide +kernel
theorem dX45_take_50 : decode cX45_take 50 = .ok (.iload_n 1, 1) := by decide +kernel
theorem dX45_take_51 : decode cX45_take 51 = .ok (.invokevirtual 628, 3) := by decide +kernel
theorem dX45_take_54 : decode cX45_take 54 = .ok (.istore 7, 2) := by decide +kernel
theorem dX45_take_56 : decode cX45_take 56 = .ok (.aload_n 0, 1) := by decide +kernel
theorem dX45_take_57 : decode cX45_take 57 = .ok (.aload_n 0, 1) := by decide +kernel
theorem dX45_take_58 : decode cX45_take 58 = .ok (.getfield 494, 3) := by decide +kernel
theorem dX45_take_61 : decode cX45_take 61 = .ok (.ifCond .ne 13, 3) := by decide +kernel
theorem dX45_take_64 : decode cX45_take 64 = .ok (.aload_n 0, 1) := by decide +kernel
theorem dX45_take_65 : decode cX45_take 65 = .ok (.getfield 391, 3) := by decide +kernel
theorem dX45_take_68 : decode cX45_take 68 = .ok (.invokevirtual 630, 3) := by decide +kernel
theorem dX45_take_71 : decode cX45_take 71 = .ok (.ifCond .eq 7, 3) := by decide +kernel
theorem dX45_take_74 : decode cX45_take 74 = .ok (.iconst 1, 1) := by decide +kernel
theorem dX45_take_75 : decode cX45_take 75 = .ok (.goto 4, 3) := by decide +kernel
theorem dX45_take_78 : decode cX45_take 78 = .ok (.iconst 0, 1) := by decide +kernel
theorem dX45_take_79 : decode cX45_take 79 = .ok (.putfield 494, 3) := by decide +kernel
theorem dX45_take_82 : decode cX45_take 82 = .ok (.aload_n 0, 1) := by decide +kernel
theorem dX45_take_83 : decode cX45_take 83 = .ok (.getfield 494, 3) := by decide +kernel
theorem dX45_take_86 : decode cX45_take 86 = .ok (.ifCond .eq 7, 3) := by decide +kernel
theorem dX45_take_89 : decode cX45_take 89 = .ok (.iconst 0, 1) := by decide +kernel
theorem dX45_take_90 : decode cX45_take 90 = .ok (.goto 13, 3) := by decide +kernel
theorem dX45_take_93 : decode cX45_take 93 = .ok (.aload_n 0, 1) := by decide +kernel
theorem dX45_take_94 : decode cX45_take 94 = .ok (.getfield 391, 3) := by decide +kernel
theorem dX45_take_97 : decode cX45_take 97 = .ok (.iload 6, 2) := by decide +kernel
theorem dX45_take_99 : decode cX45_take 99 = .ok (.iload_n 2, 1) := by decide +kernel
theorem dX45_take_100 : decode cX45_take 100 = .ok (.invokevirtual 628, 3) := by decide +kernel
theorem dX45_take_103 : decode cX45_take 103 = .ok (.istore 8, 2) := by decide +kernel
theorem dX45_take_105 : decode cX45_take 105 = .ok (.aload_n 0, 1) := by decide +kernel
theorem dX45_take_106 : decode cX45_take 106 = .ok (.aload_n 0, 1) := by decide +kernel
theorem dX45_take_107 : decode cX45_take 107 = .ok (.getfield 494, 3) := by decide +kernel
theorem dX45_take_110 : decode cX45_take 110 = .ok (.ifCond .ne 13, 3) := by decide +kernel
theorem dX45_take_113 : decode cX45_take 113 = .ok (.aload_n 0, 1) := by decide +kernel
theorem dX45_take_114 : decode cX45_take 114 = .ok (.getfield 391, 3) := by decide +kernel
theorem dX45_take_117 : decode cX45_take 117 = .ok (.invokevirtual 630, 3) := by decide +kernel
theorem dX45_take_120 : decode cX45_take 120 = .ok (.ifCond .eq 7, 3) := by decide +kernel
theorem dX45_take_123 : decode cX45_take 123 = .ok (.iconst 1, 1) := by decide +kernel
theorem dX45_take_124 : decode cX45_take 124 = .ok (.goto 4, 3) := by decide +kernel
theorem dX45_take_127 : decode cX45_take 127 = .ok (.iconst 0, 1) := by decide +kernel
theorem dX45_take_128 : decode cX45_take 128 = .ok (.putfield 494, 3) := by decide +kernel
theorem dX45_take_131 : decode cX45_take 131 = .ok (.aload_n 0, 1) := by decide +kernel
theorem dX45_take_132 : decode cX45_take 132 = .ok (.getfield 494, 3) := by decide +kernel
theorem dX45_take_135 : decode cX45_take 135 = .ok (.ifCond .eq 7, 3) := by decide +kernel
theorem dX45_take_138 : decode cX45_take 138 = .ok (.ldc2_w 506, 3) := by decide +kernel
theorem dX45_take_141 : decode cX45_take 141 = .ok (.lreturn, 1) := by decide +kernel
theorem dX45_take_142 : decode cX45_take 142 = .ok (.aload_n 0, 1) := by decide +kernel
theorem dX45_take_143 : decode cX45_take 143 = .ok (.getfield 403, 3) := by decide +kernel
theorem dX45_take_146 : decode cX45_take 146 = .ok (.iconst 1, 1) := by decide +kernel
theorem dX45_take_147 : decode cX45_take 147 = .ok (.iload_n 3, 1) := by decide +kernel
theorem dX45_take_148 : decode cX45_take 148 = .ok (.iload 7, 2) := by decide +kernel
theorem dX45_take_150 : decode cX45_take 150 = .ok (.bipush 12, 2) := by decide +kernel
theorem dX45_take_152 : decode cX45_take 152 = .ok (.irem, 1) := by decide +kernel
theorem dX45_take_153 : decode cX45_take 153 = .ok (.iload 8, 2) := by decide +kernel
theorem dX45_take_155 : decode cX45_take 155 = .ok (.bipush 12, 2) := by decide +kernel
theorem dX45_take_157 : decode cX45_take 157 = .ok (.irem, 1) := by decide +kernel
theorem dX45_take_158 : decode cX45_take 158 = .ok (.invokevirtual 613, 3) := by decide +kernel
theorem dX45_take_161 : decode cX45_take 161 = .ok (.iconst 1, 1) := by decide +kernel
theorem dX45_take_162 : decode cX45_take 162 = .ok (.if_icmp .ne 10, 3) := by decide +kernel
theorem dX45_take_165 : decode cX45_take 165 = .ok (.iload 5, 2) := by decide +kernel
theorem dX45_take_167 : decode cX45_take 167 = .ok (.iconst 1, 1) := by decide +kernel
theorem dX45_take_168 : decode cX45_take 168 = .ok (.iadd, 1) := by decide +kernel
theorem dX45_take_169 : decode cX45_take 169 = .ok (.goto 5, 3) := by decide +kernel
theorem dX45_take_172 : decode cX45_take 172 = .ok (.iload 5, 2) := by decide +kernel
theorem dX45_take_174 : decode cX45_take 174 = .ok (.istore 5, 2) := by decide +kernel
theorem dX45_take_176 : decode cX45_take 176 = .ok (.iinc 6 1, 3) := by decide +kernel
theorem dX45_take_179 : decode cX45_take 179 = .ok (.goto (-142), 3) := by decide +kernel
theorem dX45_take_182 : decode cX45_take 182 = .ok (.iload 4, 2) := by decide +kernel
theorem dX45_take_184 : decode cX45_take 184 = .ok (.ifCond .ge 9, 3) := by decide +kernel
theorem dX45_take_187 : decode cX45_take 187 = .ok (.iload 4, 2) := by decide +kernel
theorem dX45_take_189 : decode cX45_take 189 = .ok (.i2l, 1) := by decide +kernel
theorem dX45_take_190 : decode cX45_take 190 = .ok (.goto 6, 3) := by decide +kernel
theorem dX45_take_193 : decode cX45_take 193 = .ok (.iload 5, 2) := by decide +kernel
theorem dX45_take_195 : decode cX45_take 195 = .ok (.i2l, 1) := by decide +kernel
theorem dX45_take_196 : decode cX45_take 196 = .ok (.lreturn, 1) := by decide +kernel
abbrev cX45_store : ByteArray := prog_78_method_29_code
def yX45_store : MethodName := ⟨RX45, "store", "(I)J"⟩
theorem dX45_store_0 : decode cX45_store 0 = .ok (.aload_n 0, 1) := by decide +kernel
theorem dX45_store_1 : decode cX45_store 1 = .ok (.getfield 411, 3) := by decide +kernel
theorem dX45_store_4 : decode cX45_store 4 = .ok (.iconst 1, 1) := by decide +kernel
theorem dX45_store_5 : decode cX45_store 5 = .ok (.iconst (-1), 1) := by decide +kernel
theorem dX45_store_6 : decode cX45_store 6 = .ok (.ldc2_w 631, 3) := by decide +kernel
theorem dX45_store_9 : decode cX45_store 9 = .ok (.aload_n 0, 1) := by decide +kernel
theorem dX45_store_10 : decode cX45_store 10 = .ok (.getfield 355, 3) := by decide +kernel
theorem dX45_store_13 : decode cX45_store 13 = .ok (.invokevirtual 518, 3) := by decide +kernel
theorem dX45_store_16 : decode cX45_store 16 = .ok (.i2l, 1) := by decide +kernel
theorem dX45_store_17 : decode cX45_store 17 = .ok (.lmul, 1) := by decide +kernel
theorem dX45_store_18 : decode cX45_store 18 = .ok (.ldc2_w 633, 3) := by decide +kernel
theorem dX45_store_21 : decode cX45_store 21 = .ok (.aload_n 0, 1) := by decide +kernel
theorem dX45_store_22 : decode cX45_store 22 = .ok (.getfield 385, 3) := by decide +kernel
theorem dX45_store_25 : decode cX45_store 25 = .ok (.invokevirtual 635, 3) := by decide +kernel
theorem dX45_store_28 : decode cX45_store 28 = .ok (.i2l, 1) := by decide +kernel
theorem dX45_store_29 : decode cX45_store 29 = .ok (.lmul, 1) := by decide +kernel
theorem dX45_store_30 : decode cX45_store 30 = .ok (.ladd, 1) := by decide +kernel
theorem dX45_store_31 : decode cX45_store 31 = .ok (.aload_n 0, 1) := by decide +kernel
theorem dX45_store_32 : decode cX45_store 32 = .ok (.getfield 349, 3) := by decide +kernel
theorem dX45_store_35 : decode cX45_store 35 = .ok (.invokevirtual 638, 3) := by decide +kernel
theorem dX45_store_38 : decode cX45_store 38 = .ok (.i2l, 1) := by decide +kernel
theorem dX45_store_39 : decode cX45_store 39 = .ok (.ladd, 1) := by decide +kernel
theorem dX45_store_40 : decode cX45_store 40 = .ok (.invokevirtual 641, 3) := by decide +kernel
theorem dX45_store_43 : decode cX45_store 43 = .ok (.istore_n 2, 1) := by decide +kernel
theorem dX45_store_44 : decode cX45_store 44 = .ok (.iload_n 2, 1) := by decide +kernel
theorem dX45_store_45 : decode cX45_store 45 = .ok (.ifCond .ge 6, 3) := by decide +kernel
theorem dX45_store_48 : decode cX45_store 48 = .ok (.iload_n 2, 1) := by decide +kernel
theorem dX45_store_49 : decode cX45_store 49 = .ok (.i2l, 1) := by decide +kernel
theorem dX45_store_50 : decode cX45_store 50 = .ok (.lreturn, 1) := by decide +kernel
theorem dX45_store_51 : decode cX45_store 51 = .ok (.aload_n 0, 1) := by decide +kernel
theorem dX45_store_52 : decode cX45_store 52 = .ok (.getfield 411, 3) := by decide +kernel
theorem dX45_store_55 : decode cX45_store 55 = .ok (.iload_n 1, 1) := by decide +kernel
theorem dX45_store_56 : decode cX45_store 56 = .ok (.invokevirtual 645, 3) := by decide +kernel
theorem dX45_store_59 : decode cX45_store 59 = .ok (.istore_n 3, 1) := by decide +kernel
theorem dX45_store_60 : decode cX45_store 60 = .ok (.iload_n 3, 1) := by decide +kernel
theorem dX45_store_61 : decode cX45_store 61 = .ok (.ifCond .ge 6, 3) := by decide +kernel
theorem dX45_store_64 : decode cX45_store 64 = .ok (.iload_n 3, 1) := by decide +kernel
theorem dX45_store_65 : decode cX45_store 65 = .ok (.i2l, 1) := by decide +kernel
theorem dX45_store_66 : decode cX45_store 66 = .ok (.lreturn, 1) := by decide +kernel
theorem dX45_store_67 : decode cX45_store 67 = .ok (.aload_n 0, 1) := by decide +kernel
theorem dX45_store_68 : decode cX45_store 68 = .ok (.getfield 411, 3) := by decide +kernel
theorem dX45_store_71 : decode cX45_store 71 = .ok (.invokevirtual 646, 3) := by decide +kernel
theorem dX45_store_74 : decode cX45_store 74 = .ok (.istore 4, 2) := by decide +kernel
theorem dX45_store_76 : decode cX45_store 76 = .ok (.aload_n 0, 1) := by decide +kernel
theorem dX45_store_77 : decode cX45_store 77 = .ok (.ldc2_w 649, 3) := by decide +kernel
theorem dX45_store_80 : decode cX45_store 80 = .ok (.iload_n 2, 1) := by decide +kernel
theorem dX45_store_81 : decode cX45_store 81 = .ok (.i2l, 1) := by decide +kernel
theorem dX45_store_82 : decode cX45_store 82 = .ok (.iload_n 1, 1) := by decide +kernel
theorem dX45_store_83 : decode cX45_store 83 = .ok (.i2l, 1) := by decide +kernel
theorem dX45_store_84 : decode cX45_store 84 = .ok (.invokevirtual 575, 3) := by decide +kernel
theorem dX45_store_87 : decode cX45_store 87 = .ok (.iload_n 2, 1) := by decide +kernel
theorem dX45_store_88 : decode cX45_store 88 = .ok (.i2l, 1) := by decide +kernel
theorem dX45_store_89 : decode cX45_store 89 = .ok (.lreturn, 1) := by decide +kernel
abbrev cX45_audit : ByteArray := prog_78_method_30_code
def yX45_audit : MethodName := ⟨RX45, "audit", "()I"⟩
theorem dX45_audit_0 : decode cX45_audit 0 = .ok (.iconst 0, 1) := by decide +kernel
theorem dX45_audit_1 : decode cX45_audit 1 = .ok (.istore_n 1, 1) := by decide +kernel
theorem dX45_audit_2 : decode cX45_audit 2 = .ok (.iconst 0, 1) := by decide +kernel
theorem dX45_audit_3 : decode cX45_audit 3 = .ok (.istore_n 2, 1) := by decide +kernel
theorem dX45_audit_4 : decode cX45_audit 4 = .ok (.iload_n 2, 1) := by decide +kernel
theorem dX45_audit_5 : decode cX45_audit 5 = .ok (.sipush 200, 3) := by decide +kernel
theorem dX45_audit_8 : decode cX45_audit 8 = .ok (.if_icmp .ge 53, 3) := by decide +kernel
theorem dX45_audit_11 : decode cX45_audit 11 = .ok (.aload_n 0, 1) := by decide +kernel
theorem dX45_audit_12 : decode cX45_audit 12 = .ok (.getfield 397, 3) := by decide +kernel
theorem dX45_audit_15 : decode cX45_audit 15 = .ok (.iload_n 2, 1) := by decide +kernel
theorem dX45_audit_16 : decode cX45_audit 16 = .ok (.invokestatic 526, 3) := by decide +kernel
theorem dX45_audit_19 : decode cX45_audit 19 = .ok (.iload_n 2, 1) := by decide +kernel
theorem dX45_audit_20 : decode cX45_audit 20 = .ok (.invokestatic 523, 3) := by decide +kernel
theorem dX45_audit_23 : decode cX45_audit 23 = .ok (.iload_n 2, 1) := by decide +kernel
theorem dX45_audit_24 : decode cX45_audit 24 = .ok (.invokestatic 529, 3) := by decide +kernel
theorem dX45_audit_27 : decode cX45_audit 27 = .ok (.invokevirtual 651, 3) := by decide +kernel
theorem dX45_audit_30 : decode cX45_audit 30 = .ok (.iconst 1, 1) := by decide +kernel
theorem dX45_audit_31 : decode cX45_audit 31 = .ok (.if_icmp .ne 7, 3) := by decide +kernel
theorem dX45_audit_34 : decode cX45_audit 34 = .ok (.iconst 1, 1) := by decide +kernel
theorem dX45_audit_35 : decode cX45_audit 35 = .ok (.goto 4, 3) := by decide +kernel
theorem dX45_audit_38 : decode cX45_audit 38 = .ok (.iconst 0, 1) := by decide +kernel
theorem dX45_audit_39 : decode cX45_audit 39 = .ok (.aload_n 0, 1) := by decide +kernel
theorem dX45_audit_40 : decode cX45_audit 40 = .ok (.iload_n 2, 1) := by decide +kernel
theorem dX45_audit_41 : decode cX45_audit 41 = .ok (.invokevirtual 579, 3) := by decide +kernel
theorem dX45_audit_44 : decode cX45_audit 44 = .ok (.if_icmp .eq 9, 3) := by decide +kernel
theorem dX45_audit_47 : decode cX45_audit 47 = .ok (.iload_n 1, 1) := by decide +kernel
theorem dX45_audit_48 : decode cX45_audit 48 = .ok (.iconst 1, 1) := by decide +kernel
theorem dX45_audit_49 : decode cX45_audit 49 = .ok (.iadd, 1) := by decide +kernel
theorem dX45_audit_50 : decode cX45_audit 50 = .ok (.goto 4, 3) := by decide +kernel
theorem dX45_audit_53 : decode cX45_audit 53 = .ok (.iload_n 1, 1) := by decide +kernel
theorem dX45_audit_54 : decode cX45_audit 54 = .ok (.istore_n 1, 1) := by decide +kernel
theorem dX45_audit_55 : decode cX45_audit 55 = .ok (.iinc 2 1, 3) := by decide +kernel
theorem dX45_audit_58 : decode cX45_audit 58 = .ok (.goto (-54), 3) := by decide +kernel
theorem dX45_audit_61 : decode cX45_audit 61 = .ok (.iload_n 1, 1) := by decide +kernel
theorem dX45_audit_62 : decode cX45_audit 62 = .ok (.ireturn, 1) := by decide +kernel
abbrev cX45_entry : ByteArray := prog_78_method_31_code
def yX45_entry : MethodName := ⟨RX45, "entry", "(II)J"⟩
theorem dX45_entry_0 : decode cX45_entry 0 = .ok (.iload_n 1, 1) := by decide +kernel
theorem dX45_entry_1 : decode cX45_entry 1 = .ok (.ifCond .lt 27, 3) := by decide +kernel
theorem dX45_entry_4 : decode cX45_entry 4 = .ok (.iload_n 1, 1) := by decide +kernel
theorem dX45_entry_5 : decode cX45_entry 5 = .ok (.aload_n 0, 1) := by decide +kernel
theorem dX45_entry_6 : decode cX45_entry 6 = .ok (.getfield 515, 3) := by decide +kernel
theorem dX45_entry_9 : decode cX45_entry 9 = .ok (.if_icmp .ge 19, 3) := by decide +kernel
theorem dX45_entry_12 : decode cX45_entry 12 = .ok (.iload_n 1, 1) := by decide +kernel
theorem dX45_entry_13 : decode cX45_entry 13 = .ok (.sipush 400, 3) := by decide +kernel
theorem dX45_entry_16 : decode cX45_entry 16 = .ok (.if_icmp .ge 12, 3) := by decide +kernel
theorem dX45_entry_19 : decode cX45_entry 19 = .ok (.iload_n 2, 1) := by decide +kernel
theorem dX45_entry_20 : decode cX45_entry 20 = .ok (.ifCond .lt 8, 3) := by decide +kernel
theorem dX45_entry_23 : decode cX45_entry 23 = .ok (.iload_n 2, 1) := by decide +kernel
theorem dX45_entry_24 : decode cX45_entry 24 = .ok (.iconst 2, 1) := by decide +kernel
theorem dX45_entry_25 : decode cX45_entry 25 = .ok (.if_icmp .le 9, 3) := by decide +kernel
theorem dX45_entry_28 : decode cX45_entry 28 = .ok (.ldc2_w 506, 3) := by decide +kernel
theorem dX45_entry_31 : decode cX45_entry 31 = .ok (.goto 13, 3) := by decide +kernel
theorem dX45_entry_34 : decode cX45_entry 34 = .ok (.aload_n 0, 1) := by decide +kernel
theorem dX45_entry_35 : decode cX45_entry 35 = .ok (.getfield 439, 3) := by decide +kernel
theorem dX45_entry_38 : decode cX45_entry 38 = .ok (.iconst 3, 1) := by decide +kernel
theorem dX45_entry_39 : decode cX45_entry 39 = .ok (.iload_n 1, 1) := by decide +kernel
theorem dX45_entry_40 : decode cX45_entry 40 = .ok (.imul, 1) := by decide +kernel
theorem dX45_entry_41 : decode cX45_entry 41 = .ok (.iload_n 2, 1) := by decide +kernel
theorem dX45_entry_42 : decode cX45_entry 42 = .ok (.iadd, 1) := by decide +kernel
theorem dX45_entry_43 : decode cX45_entry 43 = .ok (.laload, 1) := by decide +kernel
theorem dX45_entry_44 : decode cX45_entry 44 = .ok (.lreturn, 1) := by decide +kernel
abbrev cX45_namesCall : ByteArray := prog_78_method_35_code
def yX45_namesCall : MethodName := ⟨RX45, "namesCall", "(I)J"⟩
theorem dX45_namesCall_0 : decode cX45_namesCall 0 = .ok (.iload_n 1, 1) := by decide +kernel
theorem dX45_namesCall_1 : decode cX45_namesCall 1 = .ok (.tableswitch 315 0 13 #[71, 80, 110, 140, 155, 171, 194, 217, 226, 249, 258, 274, 290, 306], 71) := by decide +kernel
theorem dX45_namesCall_72 : decode cX45_namesCall 72 = .ok (.aload_n 0, 1) := by decide +kernel
theorem dX45_namesCall_73 : decode cX45_namesCall 73 = .ok (.getfield 349, 3) := by decide +kernel
theorem dX45_namesCall_76 : decode cX45_namesCall 76 = .ok (.invokevirtual 586, 3) := by decide +kernel
theorem dX45_namesCall_79 : decode cX45_namesCall 79 = .ok (.i2l, 1) := by decide +kernel
theorem dX45_namesCall_80 : decode cX45_namesCall 80 = .ok (.lreturn, 1) := by decide +kernel
theorem dX45_namesCall_81 : decode cX45_namesCall 81 = .ok (.aload_n 0, 1) := by decide +kernel
theorem dX45_namesCall_82 : decode cX45_namesCall 82 = .ok (.getfield 349, 3) := by decide +kernel
theorem dX45_namesCall_85 : decode cX45_namesCall 85 = .ok (.aload_n 0, 1) := by decide +kernel
theorem dX45_namesCall_86 : decode cX45_namesCall 86 = .ok (.getfield 424, 3) := by decide +kernel
theorem dX45_namesCall_89 : decode cX45_namesCall 89 = .ok (.iconst 0, 1) := by decide +kernel
theorem dX45_namesCall_90 : decode cX45_namesCall 90 = .ok (.laload, 1) := by decide +kernel
theorem dX45_namesCall_91 : decode cX45_namesCall 91 = .ok (.l2i, 1) := by decide +kernel
theorem dX45_namesCall_92 : decode cX45_namesCall 92 = .ok (.aload_n 0, 1) := by decide +kernel
theorem dX45_namesCall_93 : decode cX45_namesCall 93 = .ok (.getfield 424, 3) := by decide +kernel
theorem dX45_namesCall_96 : decode cX45_namesCall 96 = .ok (.iconst 1, 1) := by decide +kernel
theorem dX45_namesCall_97 : decode cX45_namesCall 97 = .ok (.laload, 1) := by decide +kernel
theorem dX45_namesCall_98 : decode cX45_namesCall 98 = .ok (.l2i, 1) := by decide +kernel
theorem dX45_namesCall_99 : decode cX45_namesCall 99 = .ok (.aload_n 0, 1) := by decide +kernel
theorem dX45_namesCall_100 : decode cX45_namesCall 100 = .ok (.getfield 424, 3) := by decide +kernel
theorem dX45_namesCall_103 : decode cX45_namesCall 103 = .ok (.iconst 2, 1) := by decide +kernel
theorem dX45_namesCall_104 : decode cX45_namesCall 104 = .ok (.laload, 1) := by decide +kernel
theorem dX45_namesCall_105 : decode cX45_namesCall 105 = .ok (.l2i, 1) := by decide +kernel
theorem dX45_namesCall_106 : decode cX45_namesCall 106 = .ok (.invokevirtual 589, 3) := by decide +kernel
theorem dX45_namesCall_109 : decode cX45_namesCall 109 = .ok (.i2l, 1) := by decide +kernel
theorem dX45_namesCall_110 : decode cX45_namesCall 110 = .ok (.lreturn, 1) := by decide +kernel
theorem dX45_namesCall_111 : decode cX45_namesCall 111 = .ok (.aload_n 0, 1) := by decide +kernel
theorem dX45_namesCall_112 : decode cX45_namesCall 112 = .ok (.getfield 349, 3) := by decide +kernel
theorem dX45_namesCall_115 : decode cX45_namesCall 115 = .ok (.aload_n 0, 1) := by decide +kernel
theorem dX45_namesCall_116 : decode cX45_namesCall 116 = .ok (.getfield 424, 3) := by decide +kernel
theorem dX45_namesCall_119 : decode cX45_namesCall 119 = .ok (.iconst 0, 1) := by decide +kernel
theorem dX45_namesCall_120 : decode cX45_namesCall 120 = .ok (.laload, 1) := by decide +kernel
theorem dX45_namesCall_121 : decode cX45_namesCall 121 = .ok (.l2i, 1) := by decide +kernel
theorem dX45_namesCall_122 : decode cX45_namesCall 122 = .ok (.aload_n 0, 1) := by decide +kernel
theorem dX45_namesCall_123 : decode cX45_namesCall 123 = .ok (.getfield 424, 3) := by decide +kernel
theorem dX45_namesCall_126 : decode cX45_namesCall 126 = .ok (.iconst 1, 1) := by decide +kernel
theorem dX45_namesCall_127 : decode cX45_namesCall 127 = .ok (.laload, 1) := by decide +kernel
theorem dX45_namesCall_128 : decode cX45_namesCall 128 = .ok (.l2i, 1) := by decide +kernel
theorem dX45_namesCall_129 : decode cX45_namesCall 129 = .ok (.aload_n 0, 1) := by decide +kernel
theorem dX45_namesCall_130 : decode cX45_namesCall 130 = .ok (.getfield 424, 3) := by decide +kernel
theorem dX45_namesCall_133 : decode cX45_namesCall 133 = .ok (.iconst 2, 1) := by decide +kernel
theorem dX45_namesCall_134 : decode cX45_namesCall 134 = .ok (.laload, 1) := by decide +kernel
theorem dX45_namesCall_135 : decode cX45_namesCall 135 = .ok (.l2i, 1) := by decide +kernel
theorem dX45_namesCall_136 : decode cX45_namesCall 136 = .ok (.invokevirtual 723, 3) := by decide +kernel
theorem dX45_namesCall_139 : decode cX45_namesCall 139 = .ok (.i2l, 1) := by decide +kernel
theorem dX45_namesCall_140 : decode cX45_namesCall 140 = .ok (.lreturn, 1) := by decide +kernel
theorem dX45_namesCall_141 : decode cX45_namesCall 141 = .ok (.aload_n 0, 1) := by decide +kernel
theorem dX45_namesCall_142 : decode cX45_namesCall 142 = .ok (.getfield 349, 3) := by decide +kernel
theorem dX45_namesCall_145 : decode cX45_namesCall 145 = .ok (.aload_n 0, 1) := by decide +kernel
theorem dX45_namesCall_146 : decode cX45_namesCall 146 = .ok (.getfield 424, 3) := by decide +kernel
theorem dX45_namesCall_149 : decode cX45_namesCall 149 = .ok (.iconst 0, 1) := by decide +kernel
theorem dX45_namesCall_150 : decode cX45_namesCall 150 = .ok (.laload, 1) := by decide +kernel
theorem dX45_namesCall_151 : decode cX45_namesCall 151 = .ok (.invokevirtual 594, 3) := by decide +kernel
theorem dX45_namesCall_154 : decode cX45_namesCall 154 = .ok (.i2l, 1) := by decide +kernel
theorem dX45_namesCall_155 : decode cX45_namesCall 155 = .ok (.lreturn, 1) := by decide +kernel
theorem dX45_namesCall_156 : decode cX45_namesCall 156 = .ok (.aload_n 0, 1) := by decide +kernel
theorem dX45_namesCall_157 : decode cX45_namesCall 157 = .ok (.getfield 349, 3) := by decide +kernel
theorem dX45_namesCall_160 : decode cX45_namesCall 160 = .ok (.aload_n 0, 1) := by decide +kernel
theorem dX45_namesCall_161 : decode cX45_namesCall 161 = .ok (.getfield 424, 3) := by decide +kernel
theorem dX45_namesCall_164 : decode cX45_namesCall 164 = .ok (.iconst 0, 1) := by decide +kernel
theorem dX45_namesCall_165 : decode cX45_namesCall 165 = .ok (.laload, 1) := by decide +kernel
theorem dX45_namesCall_166 : decode cX45_namesCall 166 = .ok (.l2i, 1) := by decide +kernel
theorem dX45_namesCall_167 : decode cX45_namesCall 167 = .ok (.invokevirtual 724, 3) := by decide +kernel
theorem dX45_namesCall_170 : decode cX45_namesCall 170 = .ok (.i2l, 1) := by decide +kernel
theorem dX45_namesCall_171 : decode cX45_namesCall 171 = .ok (.lreturn, 1) := by decide +kernel
theorem dX45_namesCall_172 : decode cX45_namesCall 172 = .ok (.aload_n 0, 1) := by decide +kernel
theorem dX45_namesCall_173 : decode cX45_namesCall 173 = .ok (.getfield 349, 3) := by decide +kernel
theorem dX45_namesCall_176 : decode cX45_namesCall 176 = .ok (.aload_n 0, 1) := by decide +kernel
theorem dX45_namesCall_177 : decode cX45_namesCall 177 = .ok (.getfield 424, 3) := by decide +kernel
theorem dX45_namesCall_180 : decode cX45_namesCall 180 = .ok (.iconst 0, 1) := by decide +kernel
theorem dX45_namesCall_181 : decode cX45_namesCall 181 = .ok (.laload, 1) := by decide +kernel
theorem dX45_namesCall_182 : decode cX45_namesCall 182 = .ok (.l2i, 1) := by decide +kernel
theorem dX45_namesCall_183 : decode cX45_namesCall 183 = .ok (.aload_n 0, 1) := by decide +kernel
theorem dX45_namesCall_184 : decode cX45_namesCall 184 = .ok (.getfield 424, 3) := by decide +kernel
theorem dX45_namesCall_187 : decode cX45_namesCall 187 = .ok (.iconst 1, 1) := by decide +kernel
theorem dX45_namesCall_188 : decode cX45_namesCall 188 = .ok (.laload, 1) := by decide +kernel
theorem dX45_namesCall_189 : decode cX45_namesCall 189 = .ok (.l2i, 1) := by decide +kernel
theorem dX45_namesCall_190 : decode cX45_namesCall 190 = .ok (.invokevirtual 727, 3) := by decide +kernel
theorem dX45_namesCall_193 : decode cX45_namesCall 193 = .ok (.i2l, 1) := by decide +kernel
theorem dX45_namesCall_194 : decode cX45_namesCall 194 = .ok (.lreturn, 1) := by decide +kernel
theorem dX45_namesCall_195 : decode cX45_namesCall 195 = .ok (.aload_n 0, 1) := by decide +kernel
theorem dX45_namesCall_196 : decode cX45_namesCall 196 = .ok (.getfield 349, 3) := by decide +kernel
theorem dX45_namesCall_199 : decode cX45_namesCall 199 = .ok (.aload_n 0, 1) := by decide +kernel
theorem dX45_namesCall_200 : decode cX45_namesCall 200 = .ok (.getfield 424, 3) := by decide +kernel
theorem dX45_namesCall_203 : decode cX45_namesCall 203 = .ok (.iconst 0, 1) := by decide +kernel
theorem dX45_namesCall_204 : decode cX45_namesCall 204 = .ok (.laload, 1) := by decide +kernel
theorem dX45_namesCall_205 : decode cX45_namesCall 205 = .ok (.l2i, 1) := by decide +kernel
theorem dX45_namesCall_206 : decode cX45_namesCall 206 = .ok (.aload_n 0, 1) := by decide +kernel
theorem dX45_namesCall_207 : decode cX45_namesCall 207 = .ok (.getfield 424, 3) := by decide +kernel
theorem dX45_namesCall_210 : decode cX45_namesCall 210 = .ok (.iconst 1, 1) := by decide +kernel
theorem dX45_namesCall_211 : decode cX45_namesCall 211 = .ok (.laload, 1) := by decide +kernel
theorem dX45_namesCall_212 : decode cX45_namesCall 212 = .ok (.l2i, 1) := by decide +kernel
theorem dX45_namesCall_213 : decode cX45_namesCall 213 = .ok (.invokevirtual 730, 3) := by decide +kernel
theorem dX45_namesCall_216 : decode cX45_namesCall 216 = .ok (.i2l, 1) := by decide +kernel
theorem dX45_namesCall_217 : decode cX45_namesCall 217 = .ok (.lreturn, 1) := by decide +kernel
theorem dX45_namesCall_218 : decode cX45_namesCall 218 = .ok (.aload_n 0, 1) := by decide +kernel
theorem dX45_namesCall_219 : decode cX45_namesCall 219 = .ok (.getfield 349, 3) := by decide +kernel
theorem dX45_namesCall_222 : decode cX45_namesCall 222 = .ok (.invokevirtual 733, 3) := by decide +kernel
theorem dX45_namesCall_225 : decode cX45_namesCall 225 = .ok (.i2l, 1) := by decide +kernel
theorem dX45_namesCall_226 : decode cX45_namesCall 226 = .ok (.lreturn, 1) := by decide +kernel
theorem dX45_namesCall_227 : decode cX45_namesCall 227 = .ok (.aload_n 0, 1) := by decide +kernel
theorem dX45_namesCall_228 : decode cX45_namesCall 228 = .ok (.getfield 349, 3) := by decide +kernel
theorem dX45_namesCall_231 : decode cX45_namesCall 231 = .ok (.aload_n 0, 1) := by decide +kernel
theorem dX45_namesCall_232 : decode cX45_namesCall 232 = .ok (.getfield 424, 3) := by decide +kernel
theorem dX45_namesCall_235 : decode cX45_namesCall 235 = .ok (.iconst 0, 1) := by decide +kernel
theorem dX45_namesCall_236 : decode cX45_namesCall 236 = .ok (.laload, 1) := by decide +kernel
theorem dX45_namesCall_237 : decode cX45_namesCall 237 = .ok (.l2i, 1) := by decide +kernel
theorem dX45_namesCall_238 : decode cX45_namesCall 238 = .ok (.aload_n 0, 1) := by decide +kernel
theorem dX45_namesCall_239 : decode cX45_namesCall 239 = .ok (.getfield 424, 3) := by decide +kernel
theorem dX45_namesCall_242 : decode cX45_namesCall 242 = .ok (.iconst 1, 1) := by decide +kernel
theorem dX45_namesCall_243 : decode cX45_namesCall 243 = .ok (.laload, 1) := by decide +kernel
theorem dX45_namesCall_244 : decode cX45_namesCall 244 = .ok (.l2i, 1) := by decide +kernel
theorem dX45_namesCall_245 : decode cX45_namesCall 245 = .ok (.invokevirtual 736, 3) := by decide +kernel
theorem dX45_namesCall_248 : decode cX45_namesCall 248 = .ok (.i2l, 1) := by decide +kernel
theorem dX45_namesCall_249 : decode cX45_namesCall 249 = .ok (.lreturn, 1) := by decide +kernel
theorem dX45_namesCall_250 : decode cX45_namesCall 250 = .ok (.aload_n 0, 1) := by decide +kernel
theorem dX45_namesCall_251 : decode cX45_namesCall 251 = .ok (.getfield 349, 3) := by decide +kernel
theorem dX45_namesCall_254 : decode cX45_namesCall 254 = .ok (.invokevirtual 583, 3) := by decide +kernel
theorem dX45_namesCall_257 : decode cX45_namesCall 257 = .ok (.i2l, 1) := by decide +kernel
theorem dX45_namesCall_258 : decode cX45_namesCall 258 = .ok (.lreturn, 1) := by decide +kernel
theorem dX45_namesCall_259 : decode cX45_namesCall 259 = .ok (.aload_n 0, 1) := by decide +kernel
theorem dX45_namesCall_260 : decode cX45_namesCall 260 = .ok (.getfield 349, 3) := by decide +kernel
theorem dX45_namesCall_263 : decode cX45_namesCall 263 = .ok (.aload_n 0, 1) := by decide +kernel
theorem dX45_namesCall_264 : decode cX45_namesCall 264 = .ok (.getfield 424, 3) := by decide +kernel
theorem dX45_namesCall_267 : decode cX45_namesCall 267 = .ok (.iconst 0, 1) := by decide +kernel
theorem dX45_namesCall_268 : decode cX45_namesCall 268 = .ok (.laload, 1) := by decide +kernel
theorem dX45_namesCall_269 : decode cX45_namesCall 269 = .ok (.l2i, 1) := by decide +kernel
theorem dX45_namesCall_270 : decode cX45_namesCall 270 = .ok (.invokevirtual 598, 3) := by decide +kernel
theorem dX45_namesCall_273 : decode cX45_namesCall 273 = .ok (.i2l, 1) := by decide +kernel
theorem dX45_namesCall_274 : decode cX45_namesCall 274 = .ok (.lreturn, 1) := by decide +kernel
theorem dX45_namesCall_275 : decode cX45_namesCall 275 = .ok (.aload_n 0, 1) := by decide +kernel
theorem dX45_namesCall_276 : decode cX45_namesCall 276 = .ok (.getfield 349, 3) := by decide +kernel
theorem dX45_namesCall_279 : decode cX45_namesCall 279 = .ok (.aload_n 0, 1) := by decide +kernel
theorem dX45_namesCall_280 : decode cX45_namesCall 280 = .ok (.getfield 424, 3) := by decide +kernel
theorem dX45_namesCall_283 : decode cX45_namesCall 283 = .ok (.iconst 0, 1) := by decide +kernel
theorem dX45_namesCall_284 : decode cX45_namesCall 284 = .ok (.laload, 1) := by decide +kernel
theorem dX45_namesCall_285 : decode cX45_namesCall 285 = .ok (.l2i, 1) := by decide +kernel
theorem dX45_namesCall_286 : decode cX45_namesCall 286 = .ok (.invokevirtual 739, 3) := by decide +kernel
theorem dX45_namesCall_289 : decode cX45_namesCall 289 = .ok (.i2l, 1) := by decide +kernel
theorem dX45_namesCall_290 : decode cX45_namesCall 290 = .ok (.lreturn, 1) := by decide +kernel
theorem dX45_namesCall_291 : decode cX45_namesCall 291 = .ok (.aload_n 0, 1) := by decide +kernel
theorem dX45_namesCall_292 : decode cX45_namesCall 292 = .ok (.getfield 349, 3) := by decide +kernel
theorem dX45_namesCall_295 : decode cX45_namesCall 295 = .ok (.aload_n 0, 1) := by decide +kernel
theorem dX45_namesCall_296 : decode cX45_namesCall 296 = .ok (.getfield 424, 3) := by decide +kernel
theorem dX45_namesCall_299 : decode cX45_namesCall 299 = .ok (.iconst 0, 1) := by decide +kernel
theorem dX45_namesCall_300 : decode cX45_namesCall 300 = .ok (.laload, 1) := by decide +kernel
theorem dX45_namesCall_301 : decode cX45_namesCall 301 = .ok (.l2i, 1) := by decide +kernel
theorem dX45_namesCall_302 : decode cX45_namesCall 302 = .ok (.invokevirtual 742, 3) := by decide +kernel
theorem dX45_namesCall_305 : decode cX45_namesCall 305 = .ok (.i2l, 1) := by decide +kernel
theorem dX45_namesCall_306 : decode cX45_namesCall 306 = .ok (.lreturn, 1) := by decide +kernel
theorem dX45_namesCall_307 : decode cX45_namesCall 307 = .ok (.aload_n 0, 1) := by decide +kernel
theorem dX45_namesCall_308 : decode cX45_namesCall 308 = .ok (.getfield 349, 3) := by decide +kernel
theorem dX45_namesCall_311 : decode cX45_namesCall 311 = .ok (.invokevirtual 638, 3) := by decide +kernel
theorem dX45_namesCall_314 : decode cX45_namesCall 314 = .ok (.i2l, 1) := by decide +kernel
theorem dX45_namesCall_315 : decode cX45_namesCall 315 = .ok (.lreturn, 1) := by decide +kernel
theorem dX45_namesCall_316 : decode cX45_namesCall 316 = .ok (.aload_n 0, 1) := by decide +kernel
theorem dX45_namesCall_317 : decode cX45_namesCall 317 = .ok (.getfield 349, 3) := by decide +kernel
theorem dX45_namesCall_320 : decode cX45_namesCall 320 = .ok (.invokevirtual 745, 3) := by decide +kernel
theorem dX45_namesCall_323 : decode cX45_namesCall 323 = .ok (.i2l, 1) := by decide +kernel
theorem dX45_namesCall_324 : decode cX45_namesCall 324 = .ok (.lreturn, 1) := by decide +kernel
abbrev cX45_versionsCall : ByteArray := prog_78_method_36_code
def yX45_versionsCall : MethodName := ⟨RX45, "versionsCall", "(I)J"⟩
theorem dX45_versionsCall_0 : decode cX45_versionsCall 0 = .ok (.iload_n 1, 1) := by decide +kernel
theorem dX45_versionsCall_1 : decode cX45_versionsCall 1 = .ok (.tableswitch 378 0 16 #[83, 92, 108, 147, 170, 200, 230, 246, 262, 278, 294, 303, 312, 321, 330, 346, 362], 83) := by decide +kernel
theorem dX45_versionsCall_84 : decode cX45_versionsCall 84 = .ok (.aload_n 0, 1) := by decide +kernel
theorem dX45_versionsCall_85 : decode cX45_versionsCall 85 = .ok (.getfield 355, 3) := by decide +kernel
theorem dX45_versionsCall_88 : decode cX45_versionsCall 88 = .ok (.invokevirtual 551, 3) := by decide +kernel
theorem dX45_versionsCall_91 : decode cX45_versionsCall 91 = .ok (.i2l, 1) := by decide +kernel
theorem dX45_versionsCall_92 : decode cX45_versionsCall 92 = .ok (.lreturn, 1) := by decide +kernel
theorem dX45_versionsCall_93 : decode cX45_versionsCall 93 = .ok (.aload_n 0, 1) := by decide +kernel
theorem dX45_versionsCall_94 : decode cX45_versionsCall 94 = .ok (.getfield 355, 3) := by decide +kernel
theorem dX45_versionsCall_97 : decode cX45_versionsCall 97 = .ok (.aload_n 0, 1) := by decide +kernel
theorem dX45_versionsCall_98 : decode cX45_versionsCall 98 = .ok (.getfield 424, 3) := by decide +kernel
theorem dX45_versionsCall_101 : decode cX45_versionsCall 101 = .ok (.iconst 0, 1) := by decide +kernel
theorem dX45_versionsCall_102 : decode cX45_versionsCall 102 = .ok (.laload, 1) := by decide +kernel
theorem dX45_versionsCall_103 : decode cX45_versionsCall 103 = .ok (.l2i, 1) := by decide +kernel
theorem dX45_versionsCall_104 : decode cX45_versionsCall 104 = .ok (.invokevirtual 748, 3) := by decide +kernel
theorem dX45_versionsCall_107 : decode cX45_versionsCall 107 = .ok (.i2l, 1) := by decide +kernel
theorem dX45_versionsCall_108 : decode cX45_versionsCall 108 = .ok (.lreturn, 1) := by decide +kernel
theorem dX45_versionsCall_109 : decode cX45_versionsCall 109 = .ok (.aload_n 0, 1) := by decide +kernel
theorem dX45_versionsCall_110 : decode cX45_versionsCall 110 = .ok (.getfield 355, 3) := by decide +kernel
theorem dX45_versionsCall_113 : decode cX45_versionsCall 113 = .ok (.aload_n 0, 1) := by decide +kernel
theorem dX45_versionsCall_114 : decode cX45_versionsCall 114 = .ok (.getfield 424, 3) := by decide +kernel
theorem dX45_versionsCall_117 : decode cX45_versionsCall 117 = .ok (.iconst 0, 1) := by decide +kernel
theorem dX45_versionsCall_118 : decode cX45_versionsCall 118 = .ok (.laload, 1) := by decide +kernel
theorem dX45_versionsCall_119 : decode cX45_versionsCall 119 = .ok (.l2i, 1) := by decide +kernel
theorem dX45_versionsCall_120 : decode cX45_versionsCall 120 = .ok (.aload_n 0, 1) := by decide +kernel
theorem dX45_versionsCall_121 : decode cX45_versionsCall 121 = .ok (.getfield 424, 3) := by decide +kernel
theorem dX45_versionsCall_124 : decode cX45_versionsCall 124 = .ok (.iconst 1, 1) := by decide +kernel
theorem dX45_versionsCall_125 : decode cX45_versionsCall 125 = .ok (.laload, 1) := by decide +kernel
theorem dX45_versionsCall_126 : decode cX45_versionsCall 126 = .ok (.l2i, 1) := by decide +kernel
theorem dX45_versionsCall_127 : decode cX45_versionsCall 127 = .ok (.aload_n 0, 1) := by decide +kernel
theorem dX45_versionsCall_128 : decode cX45_versionsCall 128 = .ok (.getfield 424, 3) := by decide +kernel
theorem dX45_versionsCall_131 : decode cX45_versionsCall 131 = .ok (.iconst 2, 1) := by decide +kernel
theorem dX45_versionsCall_132 : decode cX45_versionsCall 132 = .ok (.laload, 1) := by decide +kernel
theorem dX45_versionsCall_133 : decode cX45_versionsCall 133 = .ok (.lconst 1, 1) := by decide +kernel
theorem dX45_versionsCall_134 : decode cX45_versionsCall 134 = .ok (.lcmp, 1) := by decide +kernel
theorem dX45_versionsCall_135 : decode cX45_versionsCall 135 = .ok (.ifCond .ne 7, 3) := by decide +kernel
theorem dX45_versionsCall_138 : decode cX45_versionsCall 138 = .ok (.iconst 1, 1) := by decide +kernel
theorem dX45_versionsCall_139 : decode cX45_versionsCall 139 = .ok (.goto 4, 3) := by decide +kernel
theorem dX45_versionsCall_142 : decode cX45_versionsCall 142 = .ok (.iconst 0, 1) := by decide +kernel
theorem dX45_versionsCall_143 : decode cX45_versionsCall 143 = .ok (.invokevirtual 559, 3) := by decide +kernel
theorem dX45_versionsCall_146 : decode cX45_versionsCall 146 = .ok (.i2l, 1) := by decide +kernel
theorem dX45_versionsCall_147 : decode cX45_versionsCall 147 = .ok (.lreturn, 1) := by decide +kernel
theorem dX45_versionsCall_148 : decode cX45_versionsCall 148 = .ok (.aload_n 0, 1) := by decide +kernel
theorem dX45_versionsCall_149 : decode cX45_versionsCall 149 = .ok (.getfield 355, 3) := by decide +kernel
theorem dX45_versionsCall_152 : decode cX45_versionsCall 152 = .ok (.aload_n 0, 1) := by decide +kernel
theorem dX45_versionsCall_153 : decode cX45_versionsCall 153 = .ok (.getfield 424, 3) := by decide +kernel
theorem dX45_versionsCall_156 : decode cX45_versionsCall 156 = .ok (.iconst 0, 1) := by decide +kernel
theorem dX45_versionsCall_157 : decode cX45_versionsCall 157 = .ok (.laload, 1) := by decide +kernel
theorem dX45_versionsCall_158 : decode cX45_versionsCall 158 = .ok (.l2i, 1) := by decide +kernel
theorem dX45_versionsCall_159 : decode cX45_versionsCall 159 = .ok (.aload_n 0, 1) := by decide +kernel
theorem dX45_versionsCall_160 : decode cX45_versionsCall 160 = .ok (.getfield 424, 3) := by decide +kernel
theorem dX45_versionsCall_163 : decode cX45_versionsCall 163 = .ok (.iconst 1, 1) := by decide +kernel
theorem dX45_versionsCall_164 : decode cX45_versionsCall 164 = .ok (.laload, 1) := by decide +kernel
theorem dX45_versionsCall_165 : decode cX45_versionsCall 165 = .ok (.l2i, 1) := by decide +kernel
theorem dX45_versionsCall_166 : decode cX45_versionsCall 166 = .ok (.invokevirtual 751, 3) := by decide +kernel
theorem dX45_versionsCall_169 : decode cX45_versionsCall 169 = .ok (.i2l, 1) := by decide +kernel
theorem dX45_versionsCall_170 : decode cX45_versionsCall 170 = .ok (.lreturn, 1) := by decide +kernel
theorem dX45_versionsCall_171 : decode cX45_versionsCall 171 = .ok (.aload_n 0, 1) := by decide +kernel
theorem dX45_versionsCall_172 : decode cX45_versionsCall 172 = .ok (.getfield 355, 3) := by decide +kernel
theorem dX45_versionsCall_175 : decode cX45_versionsCall 175 = .ok (.aload_n 0, 1) := by decide +kernel
theorem dX45_versionsCall_176 : decode cX45_versionsCall 176 = .ok (.getfield 424, 3) := by decide +kernel
theorem dX45_versionsCall_179 : decode cX45_versionsCall 179 = .ok (.iconst 0, 1) := by decide +kernel
theorem dX45_versionsCall_180 : decode cX45_versionsCall 180 = .ok (.laload, 1) := by decide +kernel
theorem dX45_versionsCall_181 : decode cX45_versionsCall 181 = .ok (.l2i, 1) := by decide +kernel
theorem dX45_versionsCall_182 : decode cX45_versionsCall 182 = .ok (.aload_n 0, 1) := by decide +kernel
theorem dX45_versionsCall_183 : decode cX45_versionsCall 183 = .ok (.getfield 424, 3) := by decide +kernel
theorem dX45_versionsCall_186 : decode cX45_versionsCall 186 = .ok (.iconst 1, 1) := by decide +kernel
theorem dX45_versionsCall_187 : decode cX45_versionsCall 187 = .ok (.laload, 1) := by decide +kernel
theorem dX45_versionsCall_188 : decode cX45_versionsCall 188 = .ok (.l2i, 1) := by decide +kernel
theorem dX45_versionsCall_189 : decode cX45_versionsCall 189 = .ok (.invokevirtual 754, 3) := by decide +kernel
theorem dX45_versionsCall_192 : decode cX45_versionsCall 192 = .ok (.ifCond .eq 7, 3) := by decide +kernel
theorem dX45_versionsCall_195 : decode cX45_versionsCall 195 = .ok (.lconst 1, 1) := by decide +kernel
theorem dX45_versionsCall_196 : decode cX45_versionsCall 196 = .ok (.goto 4, 3) := by decide +kernel
theorem dX45_versionsCall_199 : decode cX45_versionsCall 199 = .ok (.lconst 0, 1) := by decide +kernel
theorem dX45_versionsCall_200 : decode cX45_versionsCall 200 = .ok (.lreturn, 1) := by decide +kernel
theorem dX45_versionsCall_201 : decode cX45_versionsCall 201 = .ok (.aload_n 0, 1) := by decide +kernel
theorem dX45_versionsCall_202 : decode cX45_versionsCall 202 = .ok (.getfield 355, 3) := by decide +kernel
theorem dX45_versionsCall_205 : decode cX45_versionsCall 205 = .ok (.aload_n 0, 1) := by decide +kernel
theorem dX45_versionsCall_206 : decode cX45_versionsCall 206 = .ok (.getfield 424, 3) := by decide +kernel
theorem dX45_versionsCall_209 : decode cX45_versionsCall 209 = .ok (.iconst 0, 1) := by decide +kernel
theorem dX45_versionsCall_210 : decode cX45_versionsCall 210 = .ok (.laload, 1) := by decide +kernel
theorem dX45_versionsCall_211 : decode cX45_versionsCall 211 = .ok (.l2i, 1) := by decide +kernel
theorem dX45_versionsCall_212 : decode cX45_versionsCall 212 = .ok (.aload_n 0, 1) := by decide +kernel
theorem dX45_versionsCall_213 : decode cX45_versionsCall 213 = .ok (.getfield 424, 3) := by decide +kernel
theorem dX45_versionsCall_216 : decode cX45_versionsCall 216 = .ok (.iconst 1, 1) := by decide +kernel
theorem dX45_versionsCall_217 : decode cX45_versionsCall 217 = .ok (.laload, 1) := by decide +kernel
theorem dX45_versionsCall_218 : decode cX45_versionsCall 218 = .ok (.l2i, 1) := by decide +kernel
theorem dX45_versionsCall_219 : decode cX45_versionsCall 219 = .ok (.invokevirtual 521, 3) := by decide +kernel
theorem dX45_versionsCall_222 : decode cX45_versionsCall 222 = .ok (.ifCond .eq 7, 3) := by decide +kernel
theorem dX45_versionsCall_225 : decode cX45_versionsCall 225 = .ok (.lconst 1, 1) := by decide +kernel
theorem dX45_versionsCall_226 : decode cX45_versionsCall 226 = .ok (.goto 4, 3) := by decide +kernel
theorem dX45_versionsCall_229 : decode cX45_versionsCall 229 = .ok (.lconst 0, 1) := by decide +kernel
theorem dX45_versionsCall_230 : decode cX45_versionsCall 230 = .ok (.lreturn, 1) := by decide +kernel
theorem dX45_versionsCall_231 : decode cX45_versionsCall 231 = .ok (.aload_n 0, 1) := by decide +kernel
theorem dX45_versionsCall_232 : decode cX45_versionsCall 232 = .ok (.getfield 355, 3) := by decide +kernel
theorem dX45_versionsCall_235 : decode cX45_versionsCall 235 = .ok (.aload_n 0, 1) := by decide +kernel
theorem dX45_versionsCall_236 : decode cX45_versionsCall 236 = .ok (.getfield 424, 3) := by decide +kernel
theorem dX45_versionsCall_239 : decode cX45_versionsCall 239 = .ok (.iconst 0, 1) := by decide +kernel
theorem dX45_versionsCall_240 : decode cX45_versionsCall 240 = .ok (.laload, 1) := by decide +kernel
theorem dX45_versionsCall_241 : decode cX45_versionsCall 241 = .ok (.l2i, 1) := by decide +kernel
theorem dX45_versionsCall_242 : decode cX45_versionsCall 242 = .ok (.invokevirtual 568, 3) := by decide +kernel
theorem dX45_versionsCall_245 : decode cX45_versionsCall 245 = .ok (.i2l, 1) := by decide +kernel
theorem dX45_versionsCall_246 : decode cX45_versionsCall 246 = .ok (.lreturn, 1) := by decide +kernel
theorem dX45_versionsCall_247 : decode cX45_versionsCall 247 = .ok (.aload_n 0, 1) := by decide +kernel
theorem dX45_versionsCall_248 : decode cX45_versionsCall 248 = .ok (.getfield 355, 3) := by decide +kernel
theorem dX45_versionsCall_251 : decode cX45_versionsCall 251 = .ok (.aload_n 0, 1) := by decide +kernel
theorem dX45_versionsCall_252 : decode cX45_versionsCall 252 = .ok (.getfield 424, 3) := by decide +kernel
theorem dX45_versionsCall_255 : decode cX45_versionsCall 255 = .ok (.iconst 0, 1) := by decide +kernel
theorem dX45_versionsCall_256 : decode cX45_versionsCall 256 = .ok (.laload, 1) := by decide +kernel
theorem dX45_versionsCall_257 : decode cX45_versionsCall 257 = .ok (.l2i, 1) := by decide +kernel
theorem dX45_versionsCall_258 : decode cX45_versionsCall 258 = .ok (.invokevirtual 563, 3) := by decide +kernel
theorem dX45_versionsCall_261 : decode cX45_versionsCall 261 = .ok (.i2l, 1) := by decide +kernel
theorem dX45_versionsCall_262 : decode cX45_versionsCall 262 = .ok (.lreturn, 1) := by decide +kernel
theorem dX45_versionsCall_263 : decode cX45_versionsCall 263 = .ok (.aload_n 0, 1) := by decide +kernel
theorem dX45_versionsCall_264 : decode cX45_versionsCall 264 = .ok (.getfield 355, 3) := by decide +kernel
theorem dX45_versionsCall_267 : decode cX45_versionsCall 267 = .ok (.aload_n 0, 1) := by decide +kernel
theorem dX45_versionsCall_268 : decode cX45_versionsCall 268 = .ok (.getfield 424, 3) := by decide +kernel
theorem dX45_versionsCall_271 : decode cX45_versionsCall 271 = .ok (.iconst 0, 1) := by decide +kernel
theorem dX45_versionsCall_272 : decode cX45_versionsCall 272 = .ok (.laload, 1) := by decide +kernel
theorem dX45_versionsCall_273 : decode cX45_versionsCall 273 = .ok (.l2i, 1) := by decide +kernel
theorem dX45_versionsCall_274 : decode cX45_versionsCall 274 = .ok (.invokevirtual 757, 3) := by decide +kernel
theorem dX45_versionsCall_277 : decode cX45_versionsCall 277 = .ok (.i2l, 1) := by decide +kernel
theorem dX45_versionsCall_278 : decode cX45_versionsCall 278 = .ok (.lreturn, 1) := by decide +kernel
theorem dX45_versionsCall_279 : decode cX45_versionsCall 279 = .ok (.aload_n 0, 1) := by decide +kernel
theorem dX45_versionsCall_280 : decode cX45_versionsCall 280 = .ok (.getfield 355, 3) := by decide +kernel
theorem dX45_versionsCall_283 : decode cX45_versionsCall 283 = .ok (.aload_n 0, 1) := by decide +kernel
theorem dX45_versionsCall_284 : decode cX45_versionsCall 284 = .ok (.getfield 424, 3) := by decide +kernel
theorem dX45_versionsCall_287 : decode cX45_versionsCall 287 = .ok (.iconst 0, 1) := by decide +kernel
theorem dX45_versionsCall_288 : decode cX45_versionsCall 288 = .ok (.laload, 1) := by decide +kernel
theorem dX45_versionsCall_289 : decode cX45_versionsCall 289 = .ok (.l2i, 1) := by decide +kernel
theorem dX45_versionsCall_290 : decode cX45_versionsCall 290 = .ok (.invokevirtual 760, 3) := by decide +kernel
theorem dX45_versionsCall_293 : decode cX45_versionsCall 293 = .ok (.i2l, 1) := by decide +kernel
theorem dX45_versionsCall_294 : decode cX45_versionsCall 294 = .ok (.lreturn, 1) := by decide +kernel
theorem dX45_versionsCall_295 : decode cX45_versionsCall 295 = .ok (.aload_n 0, 1) := by decide +kernel
theorem dX45_versionsCall_296 : decode cX45_versionsCall 296 = .ok (.getfield 355, 3) := by decide +kernel
theorem dX45_versionsCall_299 : decode cX45_versionsCall 299 = .ok (.invokevirtual 763, 3) := by decide +kernel
theorem dX45_versionsCall_302 : decode cX45_versionsCall 302 = .ok (.i2l, 1) := by decide +kernel
theorem dX45_versionsCall_303 : decode cX45_versionsCall 303 = .ok (.lreturn, 1) := by decide +kernel
theorem dX45_versionsCall_304 : decode cX45_versionsCall 304 = .ok (.aload_n 0, 1) := by decide +kernel
theorem dX45_versionsCall_305 : decode cX45_versionsCall 305 = .ok (.getfield 355, 3) := by decide +kernel
theorem dX45_versionsCall_308 : decode cX45_versionsCall 308 = .ok (.invokevirtual 766, 3) := by decide +kernel
theorem dX45_versionsCall_311 : decode cX45_versionsCall 311 = .ok (.i2l, 1) := by decide +kernel
theorem dX45_versionsCall_312 : decode cX45_versionsCall 312 = .ok (.lreturn, 1) := by decide +kernel
theorem dX45_versionsCall_313 : decode cX45_versionsCall 313 = .ok (.aload_n 0, 1) := by decide +kernel
theorem dX45_versionsCall_314 : decode cX45_versionsCall 314 = .ok (.getfield 355, 3) := by decide +kernel
theorem dX45_versionsCall_317 : decode cX45_versionsCall 317 = .ok (.invokevirtual 518, 3) := by decide +kernel
theorem dX45_versionsCall_320 : decode cX45_versionsCall 320 = .ok (.i2l, 1) := by decide +kernel
theorem dX45_versionsCall_321 : decode cX45_versionsCall 321 = .ok (.lreturn, 1) := by decide +kernel
theorem dX45_versionsCall_322 : decode cX45_versionsCall 322 = .ok (.aload_n 0, 1) := by decide +kernel
theorem dX45_versionsCall_323 : decode cX45_versionsCall 323 = .ok (.getfield 355, 3) := by decide +kernel
theorem dX45_versionsCall_326 : decode cX45_versionsCall 326 = .ok (.invokevirtual 769, 3) := by decide +kernel
theorem dX45_versionsCall_329 : decode cX45_versionsCall 329 = .ok (.i2l, 1) := by decide +kernel
theorem dX45_versionsCall_330 : decode cX45_versionsCall 330 = .ok (.lreturn, 1) := by decide +kernel
theorem dX45_versionsCall_331 : decode cX45_versionsCall 331 = .ok (.aload_n 0, 1) := by decide +kernel
theorem dX45_versionsCall_332 : decode cX45_versionsCall 332 = .ok (.getfield 355, 3) := by decide +kernel
theorem dX45_versionsCall_335 : decode cX45_versionsCall 335 = .ok (.aload_n 0, 1) := by decide +kernel
theorem dX45_versionsCall_336 : decode cX45_versionsCall 336 = .ok (.getfield 424, 3) := by decide +kernel
theorem dX45_versionsCall_339 : decode cX45_versionsCall 339 = .ok (.iconst 0, 1) := by decide +kernel
theorem dX45_versionsCall_340 : decode cX45_versionsCall 340 = .ok (.laload, 1) := by decide +kernel
theorem dX45_versionsCall_341 : decode cX45_versionsCall 341 = .ok (.l2i, 1) := by decide +kernel
theorem dX45_versionsCall_342 : decode cX45_versionsCall 342 = .ok (.invokevirtual 772, 3) := by decide +kernel
theorem dX45_versionsCall_345 : decode cX45_versionsCall 345 = .ok (.i2l, 1) := by decide +kernel
theorem dX45_versionsCall_346 : decode cX45_versionsCall 346 = .ok (.lreturn, 1) := by decide +kernel
theorem dX45_versionsCall_347 : decode cX45_versionsCall 347 = .ok (.aload_n 0, 1) := by decide +kernel
theorem dX45_versionsCall_348 : decode cX45_versionsCall 348 = .ok (.getfield 355, 3) := by decide +kernel
theorem dX45_versionsCall_351 : decode cX45_versionsCall 351 = .ok (.aload_n 0, 1) := by decide +kernel
theorem dX45_versionsCall_352 : decode cX45_versionsCall 352 = .ok (.getfield 424, 3) := by decide +kernel
theorem dX45_versionsCall_355 : decode cX45_versionsCall 355 = .ok (.iconst 0, 1) := by decide +kernel
theorem dX45_versionsCall_356 : decode cX45_versionsCall 356 = .ok (.laload, 1) := by decide +kernel
theorem dX45_versionsCall_357 : decode cX45_versionsCall 357 = .ok (.l2i, 1) := by decide +kernel
theorem dX45_versionsCall_358 : decode cX45_versionsCall 358 = .ok (.invokevirtual 775, 3) := by decide +kernel
theorem dX45_versionsCall_361 : decode cX45_versionsCall 361 = .ok (.i2l, 1) := by decide +kernel
theorem dX45_versionsCall_362 : decode cX45_versionsCall 362 = .ok (.lreturn, 1) := by decide +kernel
theorem dX45_versionsCall_363 : decode cX45_versionsCall 363 = .ok (.aload_n 0, 1) := by decide +kernel
theorem dX45_versionsCall_364 : decode cX45_versionsCall 364 = .ok (.getfield 355, 3) := by decide +kernel
theorem dX45_versionsCall_367 : decode cX45_versionsCall 367 = .ok (.aload_n 0, 1) := by decide +kernel
theorem dX45_versionsCall_368 : decode cX45_versionsCall 368 = .ok (.getfield 424, 3) := by decide +kernel
theorem dX45_versionsCall_371 : decode cX45_versionsCall 371 = .ok (.iconst 0, 1) := by decide +kernel
theorem dX45_versionsCall_372 : decode cX45_versionsCall 372 = .ok (.laload, 1) := by decide +kernel
theorem dX45_versionsCall_373 : decode cX45_versionsCall 373 = .ok (.l2i, 1) := by decide +kernel
theorem dX45_versionsCall_374 : decode cX45_versionsCall 374 = .ok (.invokevirtual 778, 3) := by decide +kernel
theorem dX45_versionsCall_377 : decode cX45_versionsCall 377 = .ok (.i2l, 1) := by decide +kernel
theorem dX45_versionsCall_378 : decode cX45_versionsCall 378 = .ok (.lreturn, 1) := by decide +kernel
theorem dX45_versionsCall_379 : decode cX45_versionsCall 379 = .ok (.aload_n 0, 1) := by decide +kernel
theorem dX45_versionsCall_380 : decode cX45_versionsCall 380 = .ok (.getfield 355, 3) := by decide +kernel
theorem dX45_versionsCall_383 : decode cX45_versionsCall 383 = .ok (.aload_n 0, 1) := by decide +kernel
theorem dX45_versionsCall_384 : decode cX45_versionsCall 384 = .ok (.getfield 424, 3) := by decide +kernel
theorem dX45_versionsCall_387 : decode cX45_versionsCall 387 = .ok (.iconst 0, 1) := by decide +kernel
theorem dX45_versionsCall_388 : decode cX45_versionsCall 388 = .ok (.laload, 1) := by decide +kernel
theorem dX45_versionsCall_389 : decode cX45_versionsCall 389 = .ok (.l2i, 1) := by decide +kernel
theorem dX45_versionsCall_390 : decode cX45_versionsCall 390 = .ok (.aload_n 0, 1) := by decide +kernel
theorem dX45_versionsCall_391 : decode cX45_versionsCall 391 = .ok (.getfield 424, 3) := by decide +kernel
theorem dX45_versionsCall_394 : decode cX45_versionsCall 394 = .ok (.iconst 1, 1) := by decide +kernel
theorem dX45_versionsCall_395 : decode cX45_versionsCall 395 = .ok (.laload, 1) := by decide +kernel
theorem dX45_versionsCall_396 : decode cX45_versionsCall 396 = .ok (.l2i, 1) := by decide +kernel
theorem dX45_versionsCall_397 : decode cX45_versionsCall 397 = .ok (.invokevirtual 781, 3) := by decide +kernel
theorem dX45_versionsCall_400 : decode cX45_versionsCall 400 = .ok (.i2l, 1) := by decide +kernel
theorem dX45_versionsCall_401 : decode cX45_versionsCall 401 = .ok (.lreturn, 1) := by decide +kernel
abbrev cX45_valuesCall : ByteArray := prog_78_method_37_code
def yX45_valuesCall : MethodName := ⟨RX45, "valuesCall", "(I)J"⟩
theorem dX45_valuesCall_0 : decode cX45_valuesCall 0 = .ok (.iload_n 1, 1) := by decide +kernel
theorem dX45_valuesCall_1 : decode cX45_valuesCall 1 = .ok (.tableswitch 214 0 8 #[51, 73, 89, 98, 114, 137, 159, 182, 198], 51) := by decide +kernel
theorem dX45_valuesCall_52 : decode cX45_valuesCall 52 = .ok (.aload_n 0, 1) := by decide +kernel
theorem dX45_valuesCall_53 : decode cX45_valuesCall 53 = .ok (.getfield 361, 3) := by decide +kernel
theorem dX45_valuesCall_56 : decode cX45_valuesCall 56 = .ok (.aload_n 0, 1) := by decide +kernel
theorem dX45_valuesCall_57 : decode cX45_valuesCall 57 = .ok (.getfield 424, 3) := by decide +kernel
theorem dX45_valuesCall_60 : decode cX45_valuesCall 60 = .ok (.iconst 0, 1) := by decide +kernel
theorem dX45_valuesCall_61 : decode cX45_valuesCall 61 = .ok (.laload, 1) := by decide +kernel
theorem dX45_valuesCall_62 : decode cX45_valuesCall 62 = .ok (.aload_n 0, 1) := by decide +kernel
theorem dX45_valuesCall_63 : decode cX45_valuesCall 63 = .ok (.getfield 424, 3) := by decide +kernel
theorem dX45_valuesCall_66 : decode cX45_valuesCall 66 = .ok (.iconst 1, 1) := by decide +kernel
theorem dX45_valuesCall_67 : decode cX45_valuesCall 67 = .ok (.laload, 1) := by decide +kernel
theorem dX45_valuesCall_68 : decode cX45_valuesCall 68 = .ok (.l2i, 1) := by decide +kernel
theorem dX45_valuesCall_69 : decode cX45_valuesCall 69 = .ok (.invokevirtual 784, 3) := by decide +kernel
theorem dX45_valuesCall_72 : decode cX45_valuesCall 72 = .ok (.i2l, 1) := by decide +kernel
theorem dX45_valuesCall_73 : decode cX45_valuesCall 73 = .ok (.lreturn, 1) := by decide +kernel
theorem dX45_valuesCall_74 : decode cX45_valuesCall 74 = .ok (.aload_n 0, 1) := by decide +kernel
theorem dX45_valuesCall_75 : decode cX45_valuesCall 75 = .ok (.getfield 361, 3) := by decide +kernel
theorem dX45_valuesCall_78 : decode cX45_valuesCall 78 = .ok (.aload_n 0, 1) := by decide +kernel
theorem dX45_valuesCall_79 : decode cX45_valuesCall 79 = .ok (.getfield 424, 3) := by decide +kernel
theorem dX45_valuesCall_82 : decode cX45_valuesCall 82 = .ok (.iconst 0, 1) := by decide +kernel
theorem dX45_valuesCall_83 : decode cX45_valuesCall 83 = .ok (.laload, 1) := by decide +kernel
theorem dX45_valuesCall_84 : decode cX45_valuesCall 84 = .ok (.l2i, 1) := by decide +kernel
theorem dX45_valuesCall_85 : decode cX45_valuesCall 85 = .ok (.invokevirtual 788, 3) := by decide +kernel
theorem dX45_valuesCall_88 : decode cX45_valuesCall 88 = .ok (.i2l, 1) := by decide +kernel
theorem dX45_valuesCall_89 : decode cX45_valuesCall 89 = .ok (.lreturn, 1) := by decide +kernel
theorem dX45_valuesCall_90 : decode cX45_valuesCall 90 = .ok (.aload_n 0, 1) := by decide +kernel
theorem dX45_valuesCall_91 : decode cX45_valuesCall 91 = .ok (.getfield 361, 3) := by decide +kernel
theorem dX45_valuesCall_94 : decode cX45_valuesCall 94 = .ok (.invokevirtual 790, 3) := by decide +kernel
theorem dX45_valuesCall_97 : decode cX45_valuesCall 97 = .ok (.i2l, 1) := by decide +kernel
theorem dX45_valuesCall_98 : decode cX45_valuesCall 98 = .ok (.lreturn, 1) := by decide +kernel
theorem dX45_valuesCall_99 : decode cX45_valuesCall 99 = .ok (.aload_n 0, 1) := by decide +kernel
theorem dX45_valuesCall_100 : decode cX45_valuesCall 100 = .ok (.getfield 361, 3) := by decide +kernel
theorem dX45_valuesCall_103 : decode cX45_valuesCall 103 = .ok (.aload_n 0, 1) := by decide +kernel
theorem dX45_valuesCall_104 : decode cX45_valuesCall 104 = .ok (.getfield 424, 3) := by decide +kernel
theorem dX45_valuesCall_107 : decode cX45_valuesCall 107 = .ok (.iconst 0, 1) := by decide +kernel
theorem dX45_valuesCall_108 : decode cX45_valuesCall 108 = .ok (.laload, 1) := by decide +kernel
theorem dX45_valuesCall_109 : decode cX45_valuesCall 109 = .ok (.l2i, 1) := by decide +kernel
theorem dX45_valuesCall_110 : decode cX45_valuesCall 110 = .ok (.invokevirtual 792, 3) := by decide +kernel
theorem dX45_valuesCall_113 : decode cX45_valuesCall 113 = .ok (.i2l, 1) := by decide +kernel
theorem dX45_valuesCall_114 : decode cX45_valuesCall 114 = .ok (.lreturn, 1) := by decide +kernel
theorem dX45_valuesCall_115 : decode cX45_valuesCall 115 = .ok (.aload_n 0, 1) := by decide +kernel
theorem dX45_valuesCall_116 : decode cX45_valuesCall 116 = .ok (.getfield 361, 3) := by decide +kernel
theorem dX45_valuesCall_119 : decode cX45_valuesCall 119 = .ok (.aload_n 0, 1) := by decide +kernel
theorem dX45_valuesCall_120 : decode cX45_valuesCall 120 = .ok (.getfield 424, 3) := by decide +kernel
theorem dX45_valuesCall_123 : decode cX45_valuesCall 123 = .ok (.iconst 0, 1) := by decide +kernel
theorem dX45_valuesCall_124 : decode cX45_valuesCall 124 = .ok (.laload, 1) := by decide +kernel
theorem dX45_valuesCall_125 : decode cX45_valuesCall 125 = .ok (.l2i, 1) := by decide +kernel
theorem dX45_valuesCall_126 : decode cX45_valuesCall 126 = .ok (.aload_n 0, 1) := by decide +kernel
theorem dX45_valuesCall_127 : decode cX45_valuesCall 127 = .ok (.getfield 424, 3) := by decide +kernel
theorem dX45_valuesCall_130 : decode cX45_valuesCall 130 = .ok (.iconst 1, 1) := by decide +kernel
theorem dX45_valuesCall_131 : decode cX45_valuesCall 131 = .ok (.laload, 1) := by decide +kernel
theorem dX45_valuesCall_132 : decode cX45_valuesCall 132 = .ok (.l2i, 1) := by decide +kernel
theorem dX45_valuesCall_133 : decode cX45_valuesCall 133 = .ok (.invokevirtual 795, 3) := by decide +kernel
theorem dX45_valuesCall_136 : decode cX45_valuesCall 136 = .ok (.i2l, 1) := by decide +kernel
theorem dX45_valuesCall_137 : decode cX45_valuesCall 137 = .ok (.lreturn, 1) := by decide +kernel
theorem dX45_valuesCall_138 : decode cX45_valuesCall 138 = .ok (.aload_n 0, 1) := by decide +kernel
theorem dX45_valuesCall_139 : decode cX45_valuesCall 139 = .ok (.getfield 361, 3) := by decide +kernel
theorem dX45_valuesCall_142 : decode cX45_valuesCall 142 = .ok (.aload_n 0, 1) := by decide +kernel
theorem dX45_valuesCall_143 : decode cX45_valuesCall 143 = .ok (.getfield 424, 3) := by decide +kernel
theorem dX45_valuesCall_146 : decode cX45_valuesCall 146 = .ok (.iconst 0, 1) := by decide +kernel
theorem dX45_valuesCall_147 : decode cX45_valuesCall 147 = .ok (.laload, 1) := by decide +kernel
theorem dX45_valuesCall_148 : decode cX45_valuesCall 148 = .ok (.l2i, 1) := by decide +kernel
theorem dX45_valuesCall_149 : decode cX45_valuesCall 149 = .ok (.aload_n 0, 1) := by decide +kernel
theorem dX45_valuesCall_150 : decode cX45_valuesCall 150 = .ok (.getfield 424, 3) := by decide +kernel
theorem dX45_valuesCall_153 : decode cX45_valuesCall 153 = .ok (.iconst 1, 1) := by decide +kernel
theorem dX45_valuesCall_154 : decode cX45_valuesCall 154 = .ok (.laload, 1) := by decide +kernel
theorem dX45_valuesCall_155 : decode cX45_valuesCall 155 = .ok (.l2i, 1) := by decide +kernel
theorem dX45_valuesCall_156 : decode cX45_valuesCall 156 = .ok (.invokevirtual 798, 3) := by decide +kernel
theorem dX45_valuesCall_159 : decode cX45_valuesCall 159 = .ok (.lreturn, 1) := by decide +kernel
theorem dX45_valuesCall_160 : decode cX45_valuesCall 160 = .ok (.aload_n 0, 1) := by decide +kernel
theorem dX45_valuesCall_161 : decode cX45_valuesCall 161 = .ok (.getfield 361, 3) := by decide +kernel
theorem dX45_valuesCall_164 : decode cX45_valuesCall 164 = .ok (.aload_n 0, 1) := by decide +kernel
theorem dX45_valuesCall_165 : decode cX45_valuesCall 165 = .ok (.getfield 424, 3) := by decide +kernel
theorem dX45_valuesCall_168 : decode cX45_valuesCall 168 = .ok (.iconst 0, 1) := by decide +kernel
theorem dX45_valuesCall_169 : decode cX45_valuesCall 169 = .ok (.laload, 1) := by decide +kernel
theorem dX45_valuesCall_170 : decode cX45_valuesCall 170 = .ok (.l2i, 1) := by decide +kernel
theorem dX45_valuesCall_171 : decode cX45_valuesCall 171 = .ok (.aload_n 0, 1) := by decide +kernel
theorem dX45_valuesCall_172 : decode cX45_valuesCall 172 = .ok (.getfield 424, 3) := by decide +kernel
theorem dX45_valuesCall_175 : decode cX45_valuesCall 175 = .ok (.iconst 1, 1) := by decide +kernel
theorem dX45_valuesCall_176 : decode cX45_valuesCall 176 = .ok (.laload, 1) := by decide +kernel
theorem dX45_valuesCall_177 : decode cX45_valuesCall 177 = .ok (.l2i, 1) := by decide +kernel
theorem dX45_valuesCall_178 : decode cX45_valuesCall 178 = .ok (.invokevirtual 801, 3) := by decide +kernel
theorem dX45_valuesCall_181 : decode cX45_valuesCall 181 = .ok (.i2l, 1) := by decide +kernel
theorem dX45_valuesCall_182 : decode cX45_valuesCall 182 = .ok (.lreturn, 1) := by decide +kernel
theorem dX45_valuesCall_183 : decode cX45_valuesCall 183 = .ok (.aload_n 0, 1) := by decide +kernel
theorem dX45_valuesCall_184 : decode cX45_valuesCall 184 = .ok (.getfield 361, 3) := by decide +kernel
theorem dX45_valuesCall_187 : decode cX45_valuesCall 187 = .ok (.aload_n 0, 1) := by decide +kernel
theorem dX45_valuesCall_188 : decode cX45_valuesCall 188 = .ok (.getfield 424, 3) := by decide +kernel
theorem dX45_valuesCall_191 : decode cX45_valuesCall 191 = .ok (.iconst 0, 1) := by decide +kernel
theorem dX45_valuesCall_192 : decode cX45_valuesCall 192 = .ok (.laload, 1) := by decide +kernel
theorem dX45_valuesCall_193 : decode cX45_valuesCall 193 = .ok (.l2i, 1) := by decide +kernel
theorem dX45_valuesCall_194 : decode cX45_valuesCall 194 = .ok (.invokevirtual 804, 3) := by decide +kernel
theorem dX45_valuesCall_197 : decode cX45_valuesCall 197 = .ok (.i2l, 1) := by decide +kernel
theorem dX45_valuesCall_198 : decode cX45_valuesCall 198 = .ok (.lreturn, 1) := by decide +kernel
theorem dX45_valuesCall_199 : decode cX45_valuesCall 199 = .ok (.aload_n 0, 1) := by decide +kernel
theorem dX45_valuesCall_200 : decode cX45_valuesCall 200 = .ok (.getfield 361, 3) := by decide +kernel
theorem dX45_valuesCall_203 : decode cX45_valuesCall 203 = .ok (.aload_n 0, 1) := by decide +kernel
theorem dX45_valuesCall_204 : decode cX45_valuesCall 204 = .ok (.getfield 424, 3) := by decide +kernel
theorem dX45_valuesCall_207 : decode cX45_valuesCall 207 = .ok (.iconst 0, 1) := by decide +kernel
theorem dX45_valuesCall_208 : decode cX45_valuesCall 208 = .ok (.laload, 1) := by decide +kernel
theorem dX45_valuesCall_209 : decode cX45_valuesCall 209 = .ok (.l2i, 1) := by decide +kernel
theorem dX45_valuesCall_210 : decode cX45_valuesCall 210 = .ok (.invokevirtual 807, 3) := by decide +kernel
theorem dX45_valuesCall_213 : decode cX45_valuesCall 213 = .ok (.i2l, 1) := by decide +kernel
theorem dX45_valuesCall_214 : decode cX45_valuesCall 214 = .ok (.lreturn, 1) := by decide +kernel
theorem dX45_valuesCall_215 : decode cX45_valuesCall 215 = .ok (.aload_n 0, 1) := by decide +kernel
theorem dX45_valuesCall_216 : decode cX45_valuesCall 216 = .ok (.getfield 361, 3) := by decide +kernel
theorem dX45_valuesCall_219 : decode cX45_valuesCall 219 = .ok (.aload_n 0, 1) := by decide +kernel
theorem dX45_valuesCall_220 : decode cX45_valuesCall 220 = .ok (.getfield 424, 3) := by decide +kernel
theorem dX45_valuesCall_223 : decode cX45_valuesCall 223 = .ok (.iconst 0, 1) := by decide +kernel
theorem dX45_valuesCall_224 : decode cX45_valuesCall 224 = .ok (.laload, 1) := by decide +kernel
theorem dX45_valuesCall_225 : decode cX45_valuesCall 225 = .ok (.l2i, 1) := by decide +kernel
theorem dX45_valuesCall_226 : decode cX45_valuesCall 226 = .ok (.aload_n 0, 1) := by decide +kernel
theorem dX45_valuesCall_227 : decode cX45_valuesCall 227 = .ok (.getfield 424, 3) := by decide +kernel
theorem dX45_valuesCall_230 : decode cX45_valuesCall 230 = .ok (.iconst 1, 1) := by decide +kernel
theorem dX45_valuesCall_231 : decode cX45_valuesCall 231 = .ok (.laload, 1) := by decide +kernel
theorem dX45_valuesCall_232 : decode cX45_valuesCall 232 = .ok (.l2i, 1) := by decide +kernel
theorem dX45_valuesCall_233 : decode cX45_valuesCall 233 = .ok (.aload_n 0, 1) := by decide +kernel
theorem dX45_valuesCall_234 : decode cX45_valuesCall 234 = .ok (.getfield 424, 3) := by decide +kernel
theorem dX45_valuesCall_237 : decode cX45_valuesCall 237 = .ok (.iconst 2, 1) := by decide +kernel
theorem dX45_valuesCall_238 : decode cX45_valuesCall 238 = .ok (.laload, 1) := by decide +kernel
theorem dX45_valuesCall_239 : decode cX45_valuesCall 239 = .ok (.l2i, 1) := by decide +kernel
theorem dX45_valuesCall_240 : decode cX45_valuesCall 240 = .ok (.invokevirtual 809, 3) := by decide +kernel
theorem dX45_valuesCall_243 : decode cX45_valuesCall 243 = .ok (.i2l, 1) := by decide +kernel
theorem dX45_valuesCall_244 : decode cX45_valuesCall 244 = .ok (.lreturn, 1) := by decide +kernel
abbrev cX45_proofsCall : ByteArray := prog_78_method_38_code
def yX45_proofsCall : MethodName := ⟨RX45, "proofsCall", "(I)J"⟩
theorem dX45_proofsCall_0 : decode cX45_proofsCall 0 = .ok (.iload_n 1, 1) := by decide +kernel
theorem dX45_proofsCall_1 : decode cX45_proofsCall 1 = .ok (.tableswitch 324 0 12 #[67, 97, 127, 157, 180, 196, 205, 221, 237, 253, 269, 292, 308], 67) := by decide +kernel
theorem dX45_proofsCall_68 : decode cX45_proofsCall 68 = .ok (.aload_n 0, 1) := by decide +kernel
theorem dX45_proofsCall_69 : decode cX45_proofsCall 69 = .ok (.getfield 367, 3) := by decide +kernel
theorem dX45_proofsCall_72 : decode cX45_proofsCall 72 = .ok (.aload_n 0, 1) := by decide +kernel
theorem dX45_proofsCall_73 : decode cX45_proofsCall 73 = .ok (.getfield 424, 3) := by decide +kernel
theorem dX45_proofsCall_76 : decode cX45_proofsCall 76 = .ok (.iconst 0, 1) := by decide +kernel
theorem dX45_proofsCall_77 : decode cX45_proofsCall 77 = .ok (.laload, 1) := by decide +kernel
theorem dX45_proofsCall_78 : decode cX45_proofsCall 78 = .ok (.l2i, 1) := by decide +kernel
theorem dX45_proofsCall_79 : decode cX45_proofsCall 79 = .ok (.aload_n 0, 1) := by decide +kernel
theorem dX45_proofsCall_80 : decode cX45_proofsCall 80 = .ok (.getfield 424, 3) := by decide +kernel
theorem dX45_proofsCall_83 : decode cX45_proofsCall 83 = .ok (.iconst 1, 1) := by decide +kernel
theorem dX45_proofsCall_84 : decode cX45_proofsCall 84 = .ok (.laload, 1) := by decide +kernel
theorem dX45_proofsCall_85 : decode cX45_proofsCall 85 = .ok (.l2i, 1) := by decide +kernel
theorem dX45_proofsCall_86 : decode cX45_proofsCall 86 = .ok (.aload_n 0, 1) := by decide +kernel
theorem dX45_proofsCall_87 : decode cX45_proofsCall 87 = .ok (.getfield 424, 3) := by decide +kernel
theorem dX45_proofsCall_90 : decode cX45_proofsCall 90 = .ok (.iconst 2, 1) := by decide +kernel
theorem dX45_proofsCall_91 : decode cX45_proofsCall 91 = .ok (.laload, 1) := by decide +kernel
theorem dX45_proofsCall_92 : decode cX45_proofsCall 92 = .ok (.l2i, 1) := by decide +kernel
theorem dX45_proofsCall_93 : decode cX45_proofsCall 93 = .ok (.invokevirtual 812, 3) := by decide +kernel
theorem dX45_proofsCall_96 : decode cX45_proofsCall 96 = .ok (.i2l, 1) := by decide +kernel
theorem dX45_proofsCall_97 : decode cX45_proofsCall 97 = .ok (.lreturn, 1) := by decide +kernel
theorem dX45_proofsCall_98 : decode cX45_proofsCall 98 = .ok (.aload_n 0, 1) := by decide +kernel
theorem dX45_proofsCall_99 : decode cX45_proofsCall 99 = .ok (.getfield 367, 3) := by decide +kernel
theorem dX45_proofsCall_102 : decode cX45_proofsCall 102 = .ok (.aload_n 0, 1) := by decide +kernel
theorem dX45_proofsCall_103 : decode cX45_proofsCall 103 = .ok (.getfield 424, 3) := by decide +kernel
theorem dX45_proofsCall_106 : decode cX45_proofsCall 106 = .ok (.iconst 0, 1) := by decide +kernel
theorem dX45_proofsCall_107 : decode cX45_proofsCall 107 = .ok (.laload, 1) := by decide +kernel
theorem dX45_proofsCall_108 : decode cX45_proofsCall 108 = .ok (.l2i, 1) := by decide +kernel
theorem dX45_proofsCall_109 : decode cX45_proofsCall 109 = .ok (.aload_n 0, 1) := by decide +kernel
theorem dX45_proofsCall_110 : decode cX45_proofsCall 110 = .ok (.getfield 424, 3) := by decide +kernel
theorem dX45_proofsCall_113 : decode cX45_proofsCall 113 = .ok (.iconst 1, 1) := by decide +kernel
theorem dX45_proofsCall_114 : decode cX45_proofsCall 114 = .ok (.laload, 1) := by decide +kernel
theorem dX45_proofsCall_115 : decode cX45_proofsCall 115 = .ok (.l2i, 1) := by decide +kernel
theorem dX45_proofsCall_116 : decode cX45_proofsCall 116 = .ok (.aload_n 0, 1) := by decide +kernel
theorem dX45_proofsCall_117 : decode cX45_proofsCall 117 = .ok (.getfield 424, 3) := by decide +kernel
theorem dX45_proofsCall_120 : decode cX45_proofsCall 120 = .ok (.iconst 2, 1) := by decide +kernel
theorem dX45_proofsCall_121 : decode cX45_proofsCall 121 = .ok (.laload, 1) := by decide +kernel
theorem dX45_proofsCall_122 : decode cX45_proofsCall 122 = .ok (.l2i, 1) := by decide +kernel
theorem dX45_proofsCall_123 : decode cX45_proofsCall 123 = .ok (.invokevirtual 813, 3) := by decide +kernel
theorem dX45_proofsCall_126 : decode cX45_proofsCall 126 = .ok (.i2l, 1) := by decide +kernel
theorem dX45_proofsCall_127 : decode cX45_proofsCall 127 = .ok (.lreturn, 1) := by decide +kernel
theorem dX45_proofsCall_128 : decode cX45_proofsCall 128 = .ok (.aload_n 0, 1) := by decide +kernel
theorem dX45_proofsCall_129 : decode cX45_proofsCall 129 = .ok (.getfield 367, 3) := by decide +kernel
theorem dX45_proofsCall_132 : decode cX45_proofsCall 132 = .ok (.aload_n 0, 1) := by decide +kernel
theorem dX45_proofsCall_133 : decode cX45_proofsCall 133 = .ok (.getfield 424, 3) := by decide +kernel
theorem dX45_proofsCall_136 : decode cX45_proofsCall 136 = .ok (.iconst 0, 1) := by decide +kernel
theorem dX45_proofsCall_137 : decode cX45_proofsCall 137 = .ok (.laload, 1) := by decide +kernel
theorem dX45_proofsCall_138 : decode cX45_proofsCall 138 = .ok (.l2i, 1) := by decide +kernel
theorem dX45_proofsCall_139 : decode cX45_proofsCall 139 = .ok (.aload_n 0, 1) := by decide +kernel
theorem dX45_proofsCall_140 : decode cX45_proofsCall 140 = .ok (.getfield 424, 3) := by decide +kernel
theorem dX45_proofsCall_143 : decode cX45_proofsCall 143 = .ok (.iconst 1, 1) := by decide +kernel
theorem dX45_proofsCall_144 : decode cX45_proofsCall 144 = .ok (.laload, 1) := by decide +kernel
theorem dX45_proofsCall_145 : decode cX45_proofsCall 145 = .ok (.l2i, 1) := by decide +kernel
theorem dX45_proofsCall_146 : decode cX45_proofsCall 146 = .ok (.aload_n 0, 1) := by decide +kernel
theorem dX45_proofsCall_147 : decode cX45_proofsCall 147 = .ok (.getfield 424, 3) := by decide +kernel
theorem dX45_proofsCall_150 : decode cX45_proofsCall 150 = .ok (.iconst 2, 1) := by decide +kernel
theorem dX45_proofsCall_151 : decode cX45_proofsCall 151 = .ok (.laload, 1) := by decide +kernel
theorem dX45_proofsCall_152 : decode cX45_proofsCall 152 = .ok (.l2i, 1) := by decide +kernel
theorem dX45_proofsCall_153 : decode cX45_proofsCall 153 = .ok (.invokevirtual 814, 3) := by decide +kernel
theorem dX45_proofsCall_156 : decode cX45_proofsCall 156 = .ok (.i2l, 1) := by decide +kernel
theorem dX45_proofsCall_157 : decode cX45_proofsCall 157 = .ok (.lreturn, 1) := by decide +kernel
theorem dX45_proofsCall_158 : decode cX45_proofsCall 158 = .ok (.aload_n 0, 1) := by decide +kernel
theorem dX45_proofsCall_159 : decode cX45_proofsCall 159 = .ok (.getfield 367, 3) := by decide +kernel
theorem dX45_proofsCall_162 : decode cX45_proofsCall 162 = .ok (.aload_n 0, 1) := by decide +kernel
theorem dX45_proofsCall_163 : decode cX45_proofsCall 163 = .ok (.getfield 424, 3) := by decide +kernel
theorem dX45_proofsCall_166 : decode cX45_proofsCall 166 = .ok (.iconst 0, 1) := by decide +kernel
theorem dX45_proofsCall_167 : decode cX45_proofsCall 167 = .ok (.laload, 1) := by decide +kernel
theorem dX45_proofsCall_168 : decode cX45_proofsCall 168 = .ok (.l2i, 1) := by decide +kernel
theorem dX45_proofsCall_169 : decode cX45_proofsCall 169 = .ok (.aload_n 0, 1) := by decide +kernel
theorem dX45_proofsCall_170 : decode cX45_proofsCall 170 = .ok (.getfield 424, 3) := by decide +kernel
theorem dX45_proofsCall_173 : decode cX45_proofsCall 173 = .ok (.iconst 1, 1) := by decide +kernel
theorem dX45_proofsCall_174 : decode cX45_proofsCall 174 = .ok (.laload, 1) := by decide +kernel
theorem dX45_proofsCall_175 : decode cX45_proofsCall 175 = .ok (.l2i, 1) := by decide +kernel
theorem dX45_proofsCall_176 : decode cX45_proofsCall 176 = .ok (.invokevirtual 815, 3) := by decide +kernel
theorem dX45_proofsCall_179 : decode cX45_proofsCall 179 = .ok (.i2l, 1) := by decide +kernel
theorem dX45_proofsCall_180 : decode cX45_proofsCall 180 = .ok (.lreturn, 1) := by decide +kernel
theorem dX45_proofsCall_181 : decode cX45_proofsCall 181 = .ok (.aload_n 0, 1) := by decide +kernel
theorem dX45_proofsCall_182 : decode cX45_proofsCall 182 = .ok (.getfield 367, 3) := by decide +kernel
theorem dX45_proofsCall_185 : decode cX45_proofsCall 185 = .ok (.aload_n 0, 1) := by decide +kernel
theorem dX45_proofsCall_186 : decode cX45_proofsCall 186 = .ok (.getfield 424, 3) := by decide +kernel
theorem dX45_proofsCall_189 : decode cX45_proofsCall 189 = .ok (.iconst 0, 1) := by decide +kernel
theorem dX45_proofsCall_190 : decode cX45_proofsCall 190 = .ok (.laload, 1) := by decide +kernel
theorem dX45_proofsCall_191 : decode cX45_proofsCall 191 = .ok (.l2i, 1) := by decide +kernel
theorem dX45_proofsCall_192 : decode cX45_proofsCall 192 = .ok (.invokevirtual 818, 3) := by decide +kernel
theorem dX45_proofsCall_195 : decode cX45_proofsCall 195 = .ok (.i2l, 1) := by decide +kernel
theorem dX45_proofsCall_196 : decode cX45_proofsCall 196 = .ok (.lreturn, 1) := by decide +kernel
theorem dX45_proofsCall_197 : decode cX45_proofsCall 197 = .ok (.aload_n 0, 1) := by decide +kernel
theorem dX45_proofsCall_198 : decode cX45_proofsCall 198 = .ok (.getfield 367, 3) := by decide +kernel
theorem dX45_proofsCall_201 : decode cX45_proofsCall 201 = .ok (.invokevirtual 821, 3) := by decide +kernel
theorem dX45_proofsCall_204 : decode cX45_proofsCall 204 = .ok (.i2l, 1) := by decide +kernel
theorem dX45_proofsCall_205 : decode cX45_proofsCall 205 = .ok (.lreturn, 1) := by decide +kernel
theorem dX45_proofsCall_206 : decode cX45_proofsCall 206 = .ok (.aload_n 0, 1) := by decide +kernel
theorem dX45_proofsCall_207 : decode cX45_proofsCall 207 = .ok (.getfield 367, 3) := by decide +kernel
theorem dX45_proofsCall_210 : decode cX45_proofsCall 210 = .ok (.aload_n 0, 1) := by decide +kernel
theorem dX45_proofsCall_211 : decode cX45_proofsCall 211 = .ok (.getfield 424, 3) := by decide +kernel
theorem dX45_proofsCall_214 : decode cX45_proofsCall 214 = .ok (.iconst 0, 1) := by decide +kernel
theorem dX45_proofsCall_215 : decode cX45_proofsCall 215 = .ok (.laload, 1) := by decide +kernel
theorem dX45_proofsCall_216 : decode cX45_proofsCall 216 = .ok (.l2i, 1) := by decide +kernel
theorem dX45_proofsCall_217 : decode cX45_proofsCall 217 = .ok (.invokevirtual 824, 3) := by decide +kernel
theorem dX45_proofsCall_220 : decode cX45_proofsCall 220 = .ok (.i2l, 1) := by decide +kernel
theorem dX45_proofsCall_221 : decode cX45_proofsCall 221 = .ok (.lreturn, 1) := by decide +kernel
theorem dX45_proofsCall_222 : decode cX45_proofsCall 222 = .ok (.aload_n 0, 1) := by decide +kernel
theorem dX45_proofsCall_223 : decode cX45_proofsCall 223 = .ok (.getfield 367, 3) := by decide +kernel
theorem dX45_proofsCall_226 : decode cX45_proofsCall 226 = .ok (.aload_n 0, 1) := by decide +kernel
theorem dX45_proofsCall_227 : decode cX45_proofsCall 227 = .ok (.getfield 424, 3) := by decide +kernel
theorem dX45_proofsCall_230 : decode cX45_proofsCall 230 = .ok (.iconst 0, 1) := by decide +kernel
theorem dX45_proofsCall_231 : decode cX45_proofsCall 231 = .ok (.laload, 1) := by decide +kernel
theorem dX45_proofsCall_232 : decode cX45_proofsCall 232 = .ok (.l2i, 1) := by decide +kernel
theorem dX45_proofsCall_233 : decode cX45_proofsCall 233 = .ok (.invokevirtual 826, 3) := by decide +kernel
theorem dX45_proofsCall_236 : decode cX45_proofsCall 236 = .ok (.i2l, 1) := by decide +kernel
theorem dX45_proofsCall_237 : decode cX45_proofsCall 237 = .ok (.lreturn, 1) := by decide +kernel
theorem dX45_proofsCall_238 : decode cX45_proofsCall 238 = .ok (.aload_n 0, 1) := by decide +kernel
theorem dX45_proofsCall_239 : decode cX45_proofsCall 239 = .ok (.getfield 367, 3) := by decide +kernel
theorem dX45_proofsCall_242 : decode cX45_proofsCall 242 = .ok (.aload_n 0, 1) := by decide +kernel
theorem dX45_proofsCall_243 : decode cX45_proofsCall 243 = .ok (.getfield 424, 3) := by decide +kernel
theorem dX45_proofsCall_246 : decode cX45_proofsCall 246 = .ok (.iconst 0, 1) := by decide +kernel
theorem dX45_proofsCall_247 : decode cX45_proofsCall 247 = .ok (.laload, 1) := by decide +kernel
theorem dX45_proofsCall_248 : decode cX45_proofsCall 248 = .ok (.l2i, 1) := by decide +kernel
theorem dX45_proofsCall_249 : decode cX45_proofsCall 249 = .ok (.invokevirtual 828, 3) := by decide +kernel
theorem dX45_proofsCall_252 : decode cX45_proofsCall 252 = .ok (.i2l, 1) := by decide +kernel
theorem dX45_proofsCall_253 : decode cX45_proofsCall 253 = .ok (.lreturn, 1) := by decide +kernel
theorem dX45_proofsCall_254 : decode cX45_proofsCall 254 = .ok (.aload_n 0, 1) := by decide +kernel
theorem dX45_proofsCall_255 : decode cX45_proofsCall 255 = .ok (.getfield 367, 3) := by decide +kernel
theorem dX45_proofsCall_258 : decode cX45_proofsCall 258 = .ok (.aload_n 0, 1) := by decide +kernel
theorem dX45_proofsCall_259 : decode cX45_proofsCall 259 = .ok (.getfield 424, 3) := by decide +kernel
theorem dX45_proofsCall_262 : decode cX45_proofsCall 262 = .ok (.iconst 0, 1) := by decide +kernel
theorem dX45_proofsCall_263 : decode cX45_proofsCall 263 = .ok (.laload, 1) := by decide +kernel
theorem dX45_proofsCall_264 : decode cX45_proofsCall 264 = .ok (.l2i, 1) := by decide +kernel
theorem dX45_proofsCall_265 : decode cX45_proofsCall 265 = .ok (.invokevirtual 830, 3) := by decide +kernel
theorem dX45_proofsCall_268 : decode cX45_proofsCall 268 = .ok (.i2l, 1) := by decide +kernel
theorem dX45_proofsCall_269 : decode cX45_proofsCall 269 = .ok (.lreturn, 1) := by decide +kernel
theorem dX45_proofsCall_270 : decode cX45_proofsCall 270 = .ok (.aload_n 0, 1) := by decide +kernel
theorem dX45_proofsCall_271 : decode cX45_proofsCall 271 = .ok (.getfield 367, 3) := by decide +kernel
theorem dX45_proofsCall_274 : decode cX45_proofsCall 274 = .ok (.aload_n 0, 1) := by decide +kernel
theorem dX45_proofsCall_275 : decode cX45_proofsCall 275 = .ok (.getfield 424, 3) := by decide +kernel
theorem dX45_proofsCall_278 : decode cX45_proofsCall 278 = .ok (.iconst 0, 1) := by decide +kernel
theorem dX45_proofsCall_279 : decode cX45_proofsCall 279 = .ok (.laload, 1) := by decide +kernel
theorem dX45_proofsCall_280 : decode cX45_proofsCall 280 = .ok (.l2i, 1) := by decide +kernel
theorem dX45_proofsCall_281 : decode cX45_proofsCall 281 = .ok (.aload_n 0, 1) := by decide +kernel
theorem dX45_proofsCall_282 : decode cX45_proofsCall 282 = .ok (.getfield 424, 3) := by decide +kernel
theorem dX45_proofsCall_285 : decode cX45_proofsCall 285 = .ok (.iconst 1, 1) := by decide +kernel
theorem dX45_proofsCall_286 : decode cX45_proofsCall 286 = .ok (.laload, 1) := by decide +kernel
theorem dX45_proofsCall_287 : decode cX45_proofsCall 287 = .ok (.l2i, 1) := by decide +kernel
theorem dX45_proofsCall_288 : decode cX45_proofsCall 288 = .ok (.invokevirtual 832, 3) := by decide +kernel
theorem dX45_proofsCall_291 : decode cX45_proofsCall 291 = .ok (.i2l, 1) := by decide +kernel
theorem dX45_proofsCall_292 : decode cX45_proofsCall 292 = .ok (.lreturn, 1) := by decide +kernel
theorem dX45_proofsCall_293 : decode cX45_proofsCall 293 = .ok (.aload_n 0, 1) := by decide +kernel
theorem dX45_proofsCall_294 : decode cX45_proofsCall 294 = .ok (.getfield 367, 3) := by decide +kernel
theorem dX45_proofsCall_297 : decode cX45_proofsCall 297 = .ok (.aload_n 0, 1) := by decide +kernel
theorem dX45_proofsCall_298 : decode cX45_proofsCall 298 = .ok (.getfield 424, 3) := by decide +kernel
theorem dX45_proofsCall_301 : decode cX45_proofsCall 301 = .ok (.iconst 0, 1) := by decide +kernel
theorem dX45_proofsCall_302 : decode cX45_proofsCall 302 = .ok (.laload, 1) := by decide +kernel
theorem dX45_proofsCall_303 : decode cX45_proofsCall 303 = .ok (.l2i, 1) := by decide +kernel
theorem dX45_proofsCall_304 : decode cX45_proofsCall 304 = .ok (.invokevirtual 835, 3) := by decide +kernel
theorem dX45_proofsCall_307 : decode cX45_proofsCall 307 = .ok (.i2l, 1) := by decide +kernel
theorem dX45_proofsCall_308 : decode cX45_proofsCall 308 = .ok (.lreturn, 1) := by decide +kernel
theorem dX45_proofsCall_309 : decode cX45_proofsCall 309 = .ok (.aload_n 0, 1) := by decide +kernel
theorem dX45_proofsCall_310 : decode cX45_proofsCall 310 = .ok (.getfield 367, 3) := by decide +kernel
theorem dX45_proofsCall_313 : decode cX45_proofsCall 313 = .ok (.aload_n 0, 1) := by decide +kernel
theorem dX45_proofsCall_314 : decode cX45_proofsCall 314 = .ok (.getfield 424, 3) := by decide +kernel
theorem dX45_proofsCall_317 : decode cX45_proofsCall 317 = .ok (.iconst 0, 1) := by decide +kernel
theorem dX45_proofsCall_318 : decode cX45_proofsCall 318 = .ok (.laload, 1) := by decide +kernel
theorem dX45_proofsCall_319 : decode cX45_proofsCall 319 = .ok (.l2i, 1) := by decide +kernel
theorem dX45_proofsCall_320 : decode cX45_proofsCall 320 = .ok (.invokevirtual 838, 3) := by decide +kernel
theorem dX45_proofsCall_323 : decode cX45_proofsCall 323 = .ok (.i2l, 1) := by decide +kernel
theorem dX45_proofsCall_324 : decode cX45_proofsCall 324 = .ok (.lreturn, 1) := by decide +kernel
theorem dX45_proofsCall_325 : decode cX45_proofsCall 325 = .ok (.aload_n 0, 1) := by decide +kernel
theorem dX45_proofsCall_326 : decode cX45_proofsCall 326 = .ok (.getfield 367, 3) := by decide +kernel
theorem dX45_proofsCall_329 : decode cX45_proofsCall 329 = .ok (.aload_n 0, 1) := by decide +kernel
theorem dX45_proofsCall_330 : decode cX45_proofsCall 330 = .ok (.getfield 424, 3) := by decide +kernel
theorem dX45_proofsCall_333 : decode cX45_proofsCall 333 = .ok (.iconst 0, 1) := by decide +kernel
theorem dX45_proofsCall_334 : decode cX45_proofsCall 334 = .ok (.laload, 1) := by decide +kernel
theorem dX45_proofsCall_335 : decode cX45_proofsCall 335 = .ok (.l2i, 1) := by decide +kernel
theorem dX45_proofsCall_336 : decode cX45_proofsCall 336 = .ok (.aload_n 0, 1) := by decide +kernel
theorem dX45_proofsCall_337 : decode cX45_proofsCall 337 = .ok (.getfield 424, 3) := by decide +kernel
theorem dX45_proofsCall_340 : decode cX45_proofsCall 340 = .ok (.iconst 1, 1) := by decide +kernel
theorem dX45_proofsCall_341 : decode cX45_proofsCall 341 = .ok (.laload, 1) := by decide +kernel
theorem dX45_proofsCall_342 : decode cX45_proofsCall 342 = .ok (.l2i, 1) := by decide +kernel
theorem dX45_proofsCall_343 : decode cX45_proofsCall 343 = .ok (.invokevirtual 841, 3) := by decide +kernel
theorem dX45_proofsCall_346 : decode cX45_proofsCall 346 = .ok (.ifCond .eq 7, 3) := by decide +kernel
theorem dX45_proofsCall_349 : decode cX45_proofsCall 349 = .ok (.lconst 1, 1) := by decide +kernel
theorem dX45_proofsCall_350 : decode cX45_proofsCall 350 = .ok (.goto 4, 3) := by decide +kernel
theorem dX45_proofsCall_353 : decode cX45_proofsCall 353 = .ok (.lconst 0, 1) := by decide +kernel
theorem dX45_proofsCall_354 : decode cX45_proofsCall 354 = .ok (.lreturn, 1) := by decide +kernel
abbrev cX45_rightsCall : ByteArray := prog_78_method_39_code
def yX45_rightsCall : MethodName := ⟨RX45, "rightsCall", "(I)J"⟩
theorem dX45_rightsCall_0 : decode cX45_rightsCall 0 = .ok (.iload_n 1, 1) := by decide +kernel
theorem dX45_rightsCall_1 : decode cX45_rightsCall 1 = .ok (.tableswitch 447 0 14 #[75, 114, 151, 190, 206, 257, 273, 296, 319, 335, 358, 374, 406, 429, 438], 75) := by decide +kernel
theorem dX45_rightsCall_76 : decode cX45_rightsCall 76 = .ok (.aload_n 0, 1) := by decide +kernel
theorem dX45_rightsCall_77 : decode cX45_rightsCall 77 = .ok (.getfield 373, 3) := by decide +kernel
theorem dX45_rightsCall_80 : decode cX45_rightsCall 80 = .ok (.aload_n 0, 1) := by decide +kernel
theorem dX45_rightsCall_81 : decode cX45_rightsCall 81 = .ok (.getfield 424, 3) := by decide +kernel
theorem dX45_rightsCall_84 : decode cX45_rightsCall 84 = .ok (.iconst 0, 1) := by decide +kernel
theorem dX45_rightsCall_85 : decode cX45_rightsCall 85 = .ok (.laload, 1) := by decide +kernel
theorem dX45_rightsCall_86 : decode cX45_rightsCall 86 = .ok (.l2i, 1) := by decide +kernel
theorem dX45_rightsCall_87 : decode cX45_rightsCall 87 = .ok (.aload_n 0, 1) := by decide +kernel
theorem dX45_rightsCall_88 : decode cX45_rightsCall 88 = .ok (.getfield 424, 3) := by decide +kernel
theorem dX45_rightsCall_91 : decode cX45_rightsCall 91 = .ok (.iconst 1, 1) := by decide +kernel
theorem dX45_rightsCall_92 : decode cX45_rightsCall 92 = .ok (.laload, 1) := by decide +kernel
theorem dX45_rightsCall_93 : decode cX45_rightsCall 93 = .ok (.l2i, 1) := by decide +kernel
theorem dX45_rightsCall_94 : decode cX45_rightsCall 94 = .ok (.aload_n 0, 1) := by decide +kernel
theorem dX45_rightsCall_95 : decode cX45_rightsCall 95 = .ok (.getfield 424, 3) := by decide +kernel
theorem dX45_rightsCall_98 : decode cX45_rightsCall 98 = .ok (.iconst 2, 1) := by decide +kernel
theorem dX45_rightsCall_99 : decode cX45_rightsCall 99 = .ok (.laload, 1) := by decide +kernel
theorem dX45_rightsCall_100 : decode cX45_rightsCall 100 = .ok (.lconst 1, 1) := by decide +kernel
theorem dX45_rightsCall_101 : decode cX45_rightsCall 101 = .ok (.lcmp, 1) := by decide +kernel
theorem dX45_rightsCall_102 : decode cX45_rightsCall 102 = .ok (.ifCond .ne 7, 3) := by decide +kernel
theorem dX45_rightsCall_105 : decode cX45_rightsCall 105 = .ok (.iconst 1, 1) := by decide +kernel
theorem dX45_rightsCall_106 : decode cX45_rightsCall 106 = .ok (.goto 4, 3) := by decide +kernel
theorem dX45_rightsCall_109 : decode cX45_rightsCall 109 = .ok (.iconst 0, 1) := by decide +kernel
theorem dX45_rightsCall_110 : decode cX45_rightsCall 110 = .ok (.invokevirtual 844, 3) := by decide +kernel
theorem dX45_rightsCall_113 : decode cX45_rightsCall 113 = .ok (.i2l, 1) := by decide +kernel
theorem dX45_rightsCall_114 : decode cX45_rightsCall 114 = .ok (.lreturn, 1) := by decide +kernel
theorem dX45_rightsCall_115 : decode cX45_rightsCall 115 = .ok (.aload_n 0, 1) := by decide +kernel
theorem dX45_rightsCall_116 : decode cX45_rightsCall 116 = .ok (.getfield 373, 3) := by decide +kernel
theorem dX45_rightsCall_119 : decode cX45_rightsCall 119 = .ok (.aload_n 0, 1) := by decide +kernel
theorem dX45_rightsCall_120 : decode cX45_rightsCall 120 = .ok (.getfield 424, 3) := by decide +kernel
theorem dX45_rightsCall_123 : decode cX45_rightsCall 123 = .ok (.iconst 0, 1) := by decide +kernel
theorem dX45_rightsCall_124 : decode cX45_rightsCall 124 = .ok (.laload, 1) := by decide +kernel
theorem dX45_rightsCall_125 : decode cX45_rightsCall 125 = .ok (.l2i, 1) := by decide +kernel
theorem dX45_rightsCall_126 : decode cX45_rightsCall 126 = .ok (.aload_n 0, 1) := by decide +kernel
theorem dX45_rightsCall_127 : decode cX45_rightsCall 127 = .ok (.getfield 424, 3) := by decide +kernel
theorem dX45_rightsCall_130 : decode cX45_rightsCall 130 = .ok (.iconst 1, 1) := by decide +kernel
theorem dX45_rightsCall_131 : decode cX45_rightsCall 131 = .ok (.laload, 1) := by decide +kernel
theorem dX45_rightsCall_132 : decode cX45_rightsCall 132 = .ok (.l2i, 1) := by decide +kernel
theorem dX45_rightsCall_133 : decode cX45_rightsCall 133 = .ok (.aload_n 0, 1) := by decide +kernel
theorem dX45_rightsCall_134 : decode cX45_rightsCall 134 = .ok (.getfield 424, 3) := by decide +kernel
theorem dX45_rightsCall_137 : decode cX45_rightsCall 137 = .ok (.iconst 2, 1) := by decide +kernel
theorem dX45_rightsCall_138 : decode cX45_rightsCall 138 = .ok (.laload, 1) := by decide +kernel
theorem dX45_rightsCall_139 : decode cX45_rightsCall 139 = .ok (.l2i, 1) := by decide +kernel
theorem dX45_rightsCall_140 : decode cX45_rightsCall 140 = .ok (.aload_n 0, 1) := by decide +kernel
theorem dX45_rightsCall_141 : decode cX45_rightsCall 141 = .ok (.getfield 424, 3) := by decide +kernel
theorem dX45_rightsCall_144 : decode cX45_rightsCall 144 = .ok (.iconst 3, 1) := by decide +kernel
theorem dX45_rightsCall_145 : decode cX45_rightsCall 145 = .ok (.laload, 1) := by decide +kernel
theorem dX45_rightsCall_146 : decode cX45_rightsCall 146 = .ok (.l2i, 1) := by decide +kernel
theorem dX45_rightsCall_147 : decode cX45_rightsCall 147 = .ok (.invokevirtual 847, 3) := by decide +kernel
theorem dX45_rightsCall_150 : decode cX45_rightsCall 150 = .ok (.i2l, 1) := by decide +kernel
theorem dX45_rightsCall_151 : decode cX45_rightsCall 151 = .ok (.lreturn, 1) := by decide +kernel
theorem dX45_rightsCall_152 : decode cX45_rightsCall 152 = .ok (.aload_n 0, 1) := by decide +kernel
theorem dX45_rightsCall_153 : decode cX45_rightsCall 153 = .ok (.getfield 373, 3) := by decide +kernel
theorem dX45_rightsCall_156 : decode cX45_rightsCall 156 = .ok (.aload_n 0, 1) := by decide +kernel
theorem dX45_rightsCall_157 : decode cX45_rightsCall 157 = .ok (.getfield 424, 3) := by decide +kernel
theorem dX45_rightsCall_160 : decode cX45_rightsCall 160 = .ok (.iconst 0, 1) := by decide +kernel
theorem dX45_rightsCall_161 : decode cX45_rightsCall 161 = .ok (.laload, 1) := by decide +kernel
theorem dX45_rightsCall_162 : decode cX45_rightsCall 162 = .ok (.l2i, 1) := by decide +kernel
theorem dX45_rightsCall_163 : decode cX45_rightsCall 163 = .ok (.aload_n 0, 1) := by decide +kernel
theorem dX45_rightsCall_164 : decode cX45_rightsCall 164 = .ok (.getfield 424, 3) := by decide +kernel
theorem dX45_rightsCall_167 : decode cX45_rightsCall 167 = .ok (.iconst 1, 1) := by decide +kernel
theorem dX45_rightsCall_168 : decode cX45_rightsCall 168 = .ok (.laload, 1) := by decide +kernel
theorem dX45_rightsCall_169 : decode cX45_rightsCall 169 = .ok (.lconst 1, 1) := by decide +kernel
theorem dX45_rightsCall_170 : decode cX45_rightsCall 170 = .ok (.lcmp, 1) := by decide +kernel
theorem dX45_rightsCall_171 : decode cX45_rightsCall 171 = .ok (.ifCond .ne 7, 3) := by decide +kernel
theorem dX45_rightsCall_174 : decode cX45_rightsCall 174 = .ok (.iconst 1, 1) := by decide +kernel
theorem dX45_rightsCall_175 : decode cX45_rightsCall 175 = .ok (.goto 4, 3) := by decide +kernel
theorem dX45_rightsCall_178 : decode cX45_rightsCall 178 = .ok (.iconst 0, 1) := by decide +kernel
theorem dX45_rightsCall_179 : decode cX45_rightsCall 179 = .ok (.aload_n 0, 1) := by decide +kernel
theorem dX45_rightsCall_180 : decode cX45_rightsCall 180 = .ok (.getfield 424, 3) := by decide +kernel
theorem dX45_rightsCall_183 : decode cX45_rightsCall 183 = .ok (.iconst 2, 1) := by decide +kernel
theorem dX45_rightsCall_184 : decode cX45_rightsCall 184 = .ok (.laload, 1) := by decide +kernel
theorem dX45_rightsCall_185 : decode cX45_rightsCall 185 = .ok (.l2i, 1) := by decide +kernel
theorem dX45_rightsCall_186 : decode cX45_rightsCall 186 = .ok (.invokevirtual 851, 3) := by decide +kernel
theorem dX45_rightsCall_189 : decode cX45_rightsCall 189 = .ok (.i2l, 1) := by decide +kernel
theorem dX45_rightsCall_190 : decode cX45_rightsCall 190 = .ok (.lreturn, 1) := by decide +kernel
theorem dX45_rightsCall_191 : decode cX45_rightsCall 191 = .ok (.aload_n 0, 1) := by decide +kernel
theorem dX45_rightsCall_192 : decode cX45_rightsCall 192 = .ok (.getfield 373, 3) := by decide +kernel
theorem dX45_rightsCall_195 : decode cX45_rightsCall 195 = .ok (.aload_n 0, 1) := by decide +kernel
theorem dX45_rightsCall_196 : decode cX45_rightsCall 196 = .ok (.getfield 424, 3) := by decide +kernel
theorem dX45_rightsCall_199 : decode cX45_rightsCall 199 = .ok (.iconst 0, 1) := by decide +kernel
theorem dX45_rightsCall_200 : decode cX45_rightsCall 200 = .ok (.laload, 1) := by decide +kernel
theorem dX45_rightsCall_201 : decode cX45_rightsCall 201 = .ok (.l2i, 1) := by decide +kernel
theorem dX45_rightsCall_202 : decode cX45_rightsCall 202 = .ok (.invokevirtual 855, 3) := by decide +kernel
theorem dX45_rightsCall_205 : decode cX45_rightsCall 205 = .ok (.i2l, 1) := by decide +kernel
theorem dX45_rightsCall_206 : decode cX45_rightsCall 206 = .ok (.lreturn, 1) := by decide +kernel
theorem dX45_rightsCall_207 : decode cX45_rightsCall 207 = .ok (.aload_n 0, 1) := by decide +kernel
theorem dX45_rightsCall_208 : decode cX45_rightsCall 208 = .ok (.getfield 373, 3) := by decide +kernel
theorem dX45_rightsCall_211 : decode cX45_rightsCall 211 = .ok (.aload_n 0, 1) := by decide +kernel
theorem dX45_rightsCall_212 : decode cX45_rightsCall 212 = .ok (.getfield 424, 3) := by decide +kernel
theorem dX45_rightsCall_215 : decode cX45_rightsCall 215 = .ok (.iconst 0, 1) := by decide +kernel
theorem dX45_rightsCall_216 : decode cX45_rightsCall 216 = .ok (.laload, 1) := by decide +kernel
theorem dX45_rightsCall_217 : decode cX45_rightsCall 217 = .ok (.l2i, 1) := by decide +kernel
theorem dX45_rightsCall_218 : decode cX45_rightsCall 218 = .ok (.aload_n 0, 1) := by decide +kernel
theorem dX45_rightsCall_219 : decode cX45_rightsCall 219 = .ok (.getfield 424, 3) := by decide +kernel
theorem dX45_rightsCall_222 : decode cX45_rightsCall 222 = .ok (.iconst 1, 1) := by decide +kernel
theorem dX45_rightsCall_223 : decode cX45_rightsCall 223 = .ok (.laload, 1) := by decide +kernel
theorem dX45_rightsCall_224 : decode cX45_rightsCall 224 = .ok (.l2i, 1) := by decide +kernel
theorem dX45_rightsCall_225 : decode cX45_rightsCall 225 = .ok (.aload_n 0, 1) := by decide +kernel
theorem dX45_rightsCall_226 : decode cX45_rightsCall 226 = .ok (.getfield 424, 3) := by decide +kernel
theorem dX45_rightsCall_229 : decode cX45_rightsCall 229 = .ok (.iconst 2, 1) := by decide +kernel
theorem dX45_rightsCall_230 : decode cX45_rightsCall 230 = .ok (.laload, 1) := by decide +kernel
theorem dX45_rightsCall_231 : decode cX45_rightsCall 231 = .ok (.l2i, 1) := by decide +kernel
theorem dX45_rightsCall_232 : decode cX45_rightsCall 232 = .ok (.aload_n 0, 1) := by decide +kernel
theorem dX45_rightsCall_233 : decode cX45_rightsCall 233 = .ok (.getfield 424, 3) := by decide +kernel
theorem dX45_rightsCall_236 : decode cX45_rightsCall 236 = .ok (.iconst 3, 1) := by decide +kernel
theorem dX45_rightsCall_237 : decode cX45_rightsCall 237 = .ok (.laload, 1) := by decide +kernel
theorem dX45_rightsCall_238 : decode cX45_rightsCall 238 = .ok (.l2i, 1) := by decide +kernel
theorem dX45_rightsCall_239 : decode cX45_rightsCall 239 = .ok (.aload_n 0, 1) := by decide +kernel
theorem dX45_rightsCall_240 : decode cX45_rightsCall 240 = .ok (.getfield 424, 3) := by decide +kernel
theorem dX45_rightsCall_243 : decode cX45_rightsCall 243 = .ok (.iconst 4, 1) := by decide +kernel
theorem dX45_rightsCall_244 : decode cX45_rightsCall 244 = .ok (.laload, 1) := by decide +kernel
theorem dX45_rightsCall_245 : decode cX45_rightsCall 245 = .ok (.l2i, 1) := by decide +kernel
theorem dX45_rightsCall_246 : decode cX45_rightsCall 246 = .ok (.aload_n 0, 1) := by decide +kernel
theorem dX45_rightsCall_247 : decode cX45_rightsCall 247 = .ok (.getfield 424, 3) := by decide +kernel
theorem dX45_rightsCall_250 : decode cX45_rightsCall 250 = .ok (.iconst 5, 1) := by decide +kernel
theorem dX45_rightsCall_251 : decode cX45_rightsCall 251 = .ok (.laload, 1) := by decide +kernel
theorem dX45_rightsCall_252 : decode cX45_rightsCall 252 = .ok (.l2i, 1) := by decide +kernel
theorem dX45_rightsCall_253 : decode cX45_rightsCall 253 = .ok (.invokevirtual 545, 3) := by decide +kernel
theorem dX45_rightsCall_256 : decode cX45_rightsCall 256 = .ok (.i2l, 1) := by decide +kernel
theorem dX45_rightsCall_257 : decode cX45_rightsCall 257 = .ok (.lreturn, 1) := by decide +kernel
theorem dX45_rightsCall_258 : decode cX45_rightsCall 258 = .ok (.aload_n 0, 1) := by decide +kernel
theorem dX45_rightsCall_259 : decode cX45_rightsCall 259 = .ok (.getfield 373, 3) := by decide +kernel
theorem dX45_rightsCall_262 : decode cX45_rightsCall 262 = .ok (.aload_n 0, 1) := by decide +kernel
theorem dX45_rightsCall_263 : decode cX45_rightsCall 263 = .ok (.getfield 424, 3) := by decide +kernel
theorem dX45_rightsCall_266 : decode cX45_rightsCall 266 = .ok (.iconst 0, 1) := by decide +kernel
theorem dX45_rightsCall_267 : decode cX45_rightsCall 267 = .ok (.laload, 1) := by decide +kernel
theorem dX45_rightsCall_268 : decode cX45_rightsCall 268 = .ok (.l2i, 1) := by decide +kernel
theorem dX45_rightsCall_269 : decode cX45_rightsCall 269 = .ok (.invokevirtual 856, 3) := by decide +kernel
theorem dX45_rightsCall_272 : decode cX45_rightsCall 272 = .ok (.i2l, 1) := by decide +kernel
theorem dX45_rightsCall_273 : decode cX45_rightsCall 273 = .ok (.lreturn, 1) := by decide +kernel
theorem dX45_rightsCall_274 : decode cX45_rightsCall 274 = .ok (.aload_n 0, 1) := by decide +kernel
theorem dX45_rightsCall_275 : decode cX45_rightsCall 275 = .ok (.getfield 373, 3) := by decide +kernel
theorem dX45_rightsCall_278 : decode cX45_rightsCall 278 = .ok (.aload_n 0, 1) := by decide +kernel
theorem dX45_rightsCall_279 : decode cX45_rightsCall 279 = .ok (.getfield 424, 3) := by decide +kernel
theorem dX45_rightsCall_282 : decode cX45_rightsCall 282 = .ok (.iconst 0, 1) := by decide +kernel
theorem dX45_rightsCall_283 : decode cX45_rightsCall 283 = .ok (.laload, 1) := by decide +kernel
theorem dX45_rightsCall_284 : decode cX45_rightsCall 284 = .ok (.l2i, 1) := by decide +kernel
theorem dX45_rightsCall_285 : decode cX45_rightsCall 285 = .ok (.aload_n 0, 1) := by decide +kernel
theorem dX45_rightsCall_286 : decode cX45_rightsCall 286 = .ok (.getfield 424, 3) := by decide +kernel
theorem dX45_rightsCall_289 : decode cX45_rightsCall 289 = .ok (.iconst 1, 1) := by decide +kernel
theorem dX45_rightsCall_290 : decode cX45_rightsCall 290 = .ok (.laload, 1) := by decide +kernel
theorem dX45_rightsCall_291 : decode cX45_rightsCall 291 = .ok (.l2i, 1) := by decide +kernel
theorem dX45_rightsCall_292 : decode cX45_rightsCall 292 = .ok (.invokevirtual 859, 3) := by decide +kernel
theorem dX45_rightsCall_295 : decode cX45_rightsCall 295 = .ok (.i2l, 1) := by decide +kernel
theorem dX45_rightsCall_296 : decode cX45_rightsCall 296 = .ok (.lreturn, 1) := by decide +kernel
theorem dX45_rightsCall_297 : decode cX45_rightsCall 297 = .ok (.aload_n 0, 1) := by decide +kernel
theorem dX45_rightsCall_298 : decode cX45_rightsCall 298 = .ok (.getfield 373, 3) := by decide +kernel
theorem dX45_rightsCall_301 : decode cX45_rightsCall 301 = .ok (.aload_n 0, 1) := by decide +kernel
theorem dX45_rightsCall_302 : decode cX45_rightsCall 302 = .ok (.getfield 424, 3) := by decide +kernel
theorem dX45_rightsCall_305 : decode cX45_rightsCall 305 = .ok (.iconst 0, 1) := by decide +kernel
theorem dX45_rightsCall_306 : decode cX45_rightsCall 306 = .ok (.laload, 1) := by decide +kernel
theorem dX45_rightsCall_307 : decode cX45_rightsCall 307 = .ok (.l2i, 1) := by decide +kernel
theorem dX45_rightsCall_308 : decode cX45_rightsCall 308 = .ok (.aload_n 0, 1) := by decide +kernel
theorem dX45_rightsCall_309 : decode cX45_rightsCall 309 = .ok (.getfield 424, 3) := by decide +kernel
theorem dX45_rightsCall_312 : decode cX45_rightsCall 312 = .ok (.iconst 1, 1) := by decide +kernel
theorem dX45_rightsCall_313 : decode cX45_rightsCall 313 = .ok (.laload, 1) := by decide +kernel
theorem dX45_rightsCall_314 : decode cX45_rightsCall 314 = .ok (.l2i, 1) := by decide +kernel
theorem dX45_rightsCall_315 : decode cX45_rightsCall 315 = .ok (.invokevirtual 862, 3) := by decide +kernel
theorem dX45_rightsCall_318 : decode cX45_rightsCall 318 = .ok (.i2l, 1) := by decide +kernel
theorem dX45_rightsCall_319 : decode cX45_rightsCall 319 = .ok (.lreturn, 1) := by decide +kernel
theorem dX45_rightsCall_320 : decode cX45_rightsCall 320 = .ok (.aload_n 0, 1) := by decide +kernel
theorem dX45_rightsCall_321 : decode cX45_rightsCall 321 = .ok (.getfield 373, 3) := by decide +kernel
theorem dX45_rightsCall_324 : decode cX45_rightsCall 324 = .ok (.aload_n 0, 1) := by decide +kernel
theorem dX45_rightsCall_325 : decode cX45_rightsCall 325 = .ok (.getfield 424, 3) := by decide +kernel
theorem dX45_rightsCall_328 : decode cX45_rightsCall 328 = .ok (.iconst 0, 1) := by decide +kernel
theorem dX45_rightsCall_329 : decode cX45_rightsCall 329 = .ok (.laload, 1) := by decide +kernel
theorem dX45_rightsCall_330 : decode cX45_rightsCall 330 = .ok (.l2i, 1) := by decide +kernel
theorem dX45_rightsCall_331 : decode cX45_rightsCall 331 = .ok (.invokevirtual 865, 3) := by decide +kernel
theorem dX45_rightsCall_334 : decode cX45_rightsCall 334 = .ok (.i2l, 1) := by decide +kernel
theorem dX45_rightsCall_335 : decode cX45_rightsCall 335 = .ok (.lreturn, 1) := by decide +kernel
theorem dX45_rightsCall_336 : decode cX45_rightsCall 336 = .ok (.aload_n 0, 1) := by decide +kernel
theorem dX45_rightsCall_337 : decode cX45_rightsCall 337 = .ok (.getfield 373, 3) := by decide +kernel
theorem dX45_rightsCall_340 : decode cX45_rightsCall 340 = .ok (.aload_n 0, 1) := by decide +kernel
theorem dX45_rightsCall_341 : decode cX45_rightsCall 341 = .ok (.getfield 424, 3) := by decide +kernel
theorem dX45_rightsCall_344 : decode cX45_rightsCall 344 = .ok (.iconst 0, 1) := by decide +kernel
theorem dX45_rightsCall_345 : decode cX45_rightsCall 345 = .ok (.laload, 1) := by decide +kernel
theorem dX45_rightsCall_346 : decode cX45_rightsCall 346 = .ok (.l2i, 1) := by decide +kernel
theorem dX45_rightsCall_347 : decode cX45_rightsCall 347 = .ok (.aload_n 0, 1) := by decide +kernel
theorem dX45_rightsCall_348 : decode cX45_rightsCall 348 = .ok (.getfield 424, 3) := by decide +kernel
theorem dX45_rightsCall_351 : decode cX45_rightsCall 351 = .ok (.iconst 1, 1) := by decide +kernel
theorem dX45_rightsCall_352 : decode cX45_rightsCall 352 = .ok (.laload, 1) := by decide +kernel
theorem dX45_rightsCall_353 : decode cX45_rightsCall 353 = .ok (.l2i, 1) := by decide +kernel
theorem dX45_rightsCall_354 : decode cX45_rightsCall 354 = .ok (.invokevirtual 868, 3) := by decide +kernel
theorem dX45_rightsCall_357 : decode cX45_rightsCall 357 = .ok (.i2l, 1) := by decide +kernel
theorem dX45_rightsCall_358 : decode cX45_rightsCall 358 = .ok (.lreturn, 1) := by decide +kernel
theorem dX45_rightsCall_359 : decode cX45_rightsCall 359 = .ok (.aload_n 0, 1) := by decide +kernel
theorem dX45_rightsCall_360 : decode cX45_rightsCall 360 = .ok (.getfield 373, 3) := by decide +kernel
theorem dX45_rightsCall_363 : decode cX45_rightsCall 363 = .ok (.aload_n 0, 1) := by decide +kernel
theorem dX45_rightsCall_364 : decode cX45_rightsCall 364 = .ok (.getfield 424, 3) := by decide +kernel
theorem dX45_rightsCall_367 : decode cX45_rightsCall 367 = .ok (.iconst 0, 1) := by decide +kernel
theorem dX45_rightsCall_368 : decode cX45_rightsCall 368 = .ok (.laload, 1) := by decide +kernel
theorem dX45_rightsCall_369 : decode cX45_rightsCall 369 = .ok (.l2i, 1) := by decide +kernel
theorem dX45_rightsCall_370 : decode cX45_rightsCall 370 = .ok (.invokevirtual 871, 3) := by decide +kernel
theorem dX45_rightsCall_373 : decode cX45_rightsCall 373 = .ok (.i2l, 1) := by decide +kernel
theorem dX45_rightsCall_374 : decode cX45_rightsCall 374 = .ok (.lreturn, 1) := by decide +kernel
theorem dX45_rightsCall_375 : decode cX45_rightsCall 375 = .ok (.aload_n 0, 1) := by decide +kernel
theorem dX45_rightsCall_376 : decode cX45_rightsCall 376 = .ok (.getfield 373, 3) := by decide +kernel
theorem dX45_rightsCall_379 : decode cX45_rightsCall 379 = .ok (.aload_n 0, 1) := by decide +kernel
theorem dX45_rightsCall_380 : decode cX45_rightsCall 380 = .ok (.getfield 424, 3) := by decide +kernel
theorem dX45_rightsCall_383 : decode cX45_rightsCall 383 = .ok (.iconst 0, 1) := by decide +kernel
theorem dX45_rightsCall_384 : decode cX45_rightsCall 384 = .ok (.laload, 1) := by decide +kernel
theorem dX45_rightsCall_385 : decode cX45_rightsCall 385 = .ok (.lconst 1, 1) := by decide +kernel
theorem dX45_rightsCall_386 : decode cX45_rightsCall 386 = .ok (.lcmp, 1) := by decide +kernel
theorem dX45_rightsCall_387 : decode cX45_rightsCall 387 = .ok (.ifCond .ne 7, 3) := by decide +kernel
theorem dX45_rightsCall_390 : decode cX45_rightsCall 390 = .ok (.iconst 1, 1) := by decide +kernel
theorem dX45_rightsCall_391 : decode cX45_rightsCall 391 = .ok (.goto 4, 3) := by decide +kernel
theorem dX45_rightsCall_394 : decode cX45_rightsCall 394 = .ok (.iconst 0, 1) := by decide +kernel
theorem dX45_rightsCall_395 : decode cX45_rightsCall 395 = .ok (.aload_n 0, 1) := by decide +kernel
theorem dX45_rightsCall_396 : decode cX45_rightsCall 396 = .ok (.getfield 424, 3) := by decide +kernel
theorem dX45_rightsCall_399 : decode cX45_rightsCall 399 = .ok (.iconst 1, 1) := by decide +kernel
theorem dX45_rightsCall_400 : decode cX45_rightsCall 400 = .ok (.laload, 1) := by decide +kernel
theorem dX45_rightsCall_401 : decode cX45_rightsCall 401 = .ok (.l2i, 1) := by decide +kernel
theorem dX45_rightsCall_402 : decode cX45_rightsCall 402 = .ok (.invokevirtual 874, 3) := by decide +kernel
theorem dX45_rightsCall_405 : decode cX45_rightsCall 405 = .ok (.i2l, 1) := by decide +kernel
theorem dX45_rightsCall_406 : decode cX45_rightsCall 406 = .ok (.lreturn, 1) := by decide +kernel
theorem dX45_rightsCall_407 : decode cX45_rightsCall 407 = .ok (.aload_n 0, 1) := by decide +kernel
theorem dX45_rightsCall_408 : decode cX45_rightsCall 408 = .ok (.getfield 373, 3) := by decide +kernel
theorem dX45_rightsCall_411 : decode cX45_rightsCall 411 = .ok (.aload_n 0, 1) := by decide +kernel
theorem dX45_rightsCall_412 : decode cX45_rightsCall 412 = .ok (.getfield 424, 3) := by decide +kernel
theorem dX45_rightsCall_415 : decode cX45_rightsCall 415 = .ok (.iconst 0, 1) := by decide +kernel
theorem dX45_rightsCall_416 : decode cX45_rightsCall 416 = .ok (.laload, 1) := by decide +kernel
theorem dX45_rightsCall_417 : decode cX45_rightsCall 417 = .ok (.l2i, 1) := by decide +kernel
theorem dX45_rightsCall_418 : decode cX45_rightsCall 418 = .ok (.aload_n 0, 1) := by decide +kernel
theorem dX45_rightsCall_419 : decode cX45_rightsCall 419 = .ok (.getfield 424, 3) := by decide +kernel
theorem dX45_rightsCall_422 : decode cX45_rightsCall 422 = .ok (.iconst 1, 1) := by decide +kernel
theorem dX45_rightsCall_423 : decode cX45_rightsCall 423 = .ok (.laload, 1) := by decide +kernel
theorem dX45_rightsCall_424 : decode cX45_rightsCall 424 = .ok (.l2i, 1) := by decide +kernel
theorem dX45_rightsCall_425 : decode cX45_rightsCall 425 = .ok (.invokevirtual 878, 3) := by decide +kernel
theorem dX45_rightsCall_428 : decode cX45_rightsCall 428 = .ok (.i2l, 1) := by decide +kernel
theorem dX45_rightsCall_429 : decode cX45_rightsCall 429 = .ok (.lreturn, 1) := by decide +kernel
theorem dX45_rightsCall_430 : decode cX45_rightsCall 430 = .ok (.aload_n 0, 1) := by decide +kernel
theorem dX45_rightsCall_431 : decode cX45_rightsCall 431 = .ok (.getfield 373, 3) := by decide +kernel
theorem dX45_rightsCall_434 : decode cX45_rightsCall 434 = .ok (.invokevirtual 881, 3) := by decide +kernel
theorem dX45_rightsCall_437 : decode cX45_rightsCall 437 = .ok (.i2l, 1) := by decide +kernel
theorem dX45_rightsCall_438 : decode cX45_rightsCall 438 = .ok (.lreturn, 1) := by decide +kernel
theorem dX45_rightsCall_439 : decode cX45_rightsCall 439 = .ok (.aload_n 0, 1) := by decide +kernel
theorem dX45_rightsCall_440 : decode cX45_rightsCall 440 = .ok (.getfield 373, 3) := by decide +kernel
theorem dX45_rightsCall_443 : decode cX45_rightsCall 443 = .ok (.invokevirtual 884, 3) := by decide +kernel
theorem dX45_rightsCall_446 : decode cX45_rightsCall 446 = .ok (.i2l, 1) := by decide +kernel
theorem dX45_rightsCall_447 : decode cX45_rightsCall 447 = .ok (.lreturn, 1) := by decide +kernel
theorem dX45_rightsCall_448 : decode cX45_rightsCall 448 = .ok (.aload_n 0, 1) := by decide +kernel
theorem dX45_rightsCall_449 : decode cX45_rightsCall 449 = .ok (.getfield 373, 3) := by decide +kernel
theorem dX45_rightsCall_452 : decode cX45_rightsCall 452 = .ok (.invokevirtual 887, 3) := by decide +kernel
theorem dX45_rightsCall_455 : decode cX45_rightsCall 455 = .ok (.i2l, 1) := by decide +kernel
theorem dX45_rightsCall_456 : decode cX45_rightsCall 456 = .ok (.lreturn, 1) := by decide +kernel
abbrev cX45_classesCall : ByteArray := prog_78_method_40_code
def yX45_classesCall : MethodName := ⟨RX45, "classesCall", "(I)J"⟩
theorem dX45_classesCall_0 : decode cX45_classesCall 0 = .ok (.iload_n 1, 1) := by decide +kernel
theorem dX45_classesCall_1 : decode cX45_classesCall 1 = .ok (.tableswitch 391 0 15 #[79, 88, 97, 127, 143, 159, 182, 205, 214, 237, 260, 283, 299, 315, 338, 361], 79) := by decide +kernel
theorem dX45_classesCall_80 : decode cX45_classesCall 80 = .ok (.aload_n 0, 1) := by decide +kernel
theorem dX45_classesCall_81 : decode cX45_classesCall 81 = .ok (.getfield 379, 3) := by decide +kernel
theorem dX45_classesCall_84 : decode cX45_classesCall 84 = .ok (.invokevirtual 889, 3) := by decide +kernel
theorem dX45_classesCall_87 : decode cX45_classesCall 87 = .ok (.i2l, 1) := by decide +kernel
theorem dX45_classesCall_88 : decode cX45_classesCall 88 = .ok (.lreturn, 1) := by decide +kernel
theorem dX45_classesCall_89 : decode cX45_classesCall 89 = .ok (.aload_n 0, 1) := by decide +kernel
theorem dX45_classesCall_90 : decode cX45_classesCall 90 = .ok (.getfield 379, 3) := by decide +kernel
theorem dX45_classesCall_93 : decode cX45_classesCall 93 = .ok (.invokevirtual 892, 3) := by decide +kernel
theorem dX45_classesCall_96 : decode cX45_classesCall 96 = .ok (.i2l, 1) := by decide +kernel
theorem dX45_classesCall_97 : decode cX45_classesCall 97 = .ok (.lreturn, 1) := by decide +kernel
theorem dX45_classesCall_98 : decode cX45_classesCall 98 = .ok (.aload_n 0, 1) := by decide +kernel
theorem dX45_classesCall_99 : decode cX45_classesCall 99 = .ok (.getfield 379, 3) := by decide +kernel
theorem dX45_classesCall_102 : decode cX45_classesCall 102 = .ok (.aload_n 0, 1) := by decide +kernel
theorem dX45_classesCall_103 : decode cX45_classesCall 103 = .ok (.getfield 424, 3) := by decide +kernel
theorem dX45_classesCall_106 : decode cX45_classesCall 106 = .ok (.iconst 0, 1) := by decide +kernel
theorem dX45_classesCall_107 : decode cX45_classesCall 107 = .ok (.laload, 1) := by decide +kernel
theorem dX45_classesCall_108 : decode cX45_classesCall 108 = .ok (.l2i, 1) := by decide +kernel
theorem dX45_classesCall_109 : decode cX45_classesCall 109 = .ok (.aload_n 0, 1) := by decide +kernel
theorem dX45_classesCall_110 : decode cX45_classesCall 110 = .ok (.getfield 424, 3) := by decide +kernel
theorem dX45_classesCall_113 : decode cX45_classesCall 113 = .ok (.iconst 1, 1) := by decide +kernel
theorem dX45_classesCall_114 : decode cX45_classesCall 114 = .ok (.laload, 1) := by decide +kernel
theorem dX45_classesCall_115 : decode cX45_classesCall 115 = .ok (.l2i, 1) := by decide +kernel
theorem dX45_classesCall_116 : decode cX45_classesCall 116 = .ok (.aload_n 0, 1) := by decide +kernel
theorem dX45_classesCall_117 : decode cX45_classesCall 117 = .ok (.getfield 424, 3) := by decide +kernel
theorem dX45_classesCall_120 : decode cX45_classesCall 120 = .ok (.iconst 2, 1) := by decide +kernel
theorem dX45_classesCall_121 : decode cX45_classesCall 121 = .ok (.laload, 1) := by decide +kernel
theorem dX45_classesCall_122 : decode cX45_classesCall 122 = .ok (.l2i, 1) := by decide +kernel
theorem dX45_classesCall_123 : decode cX45_classesCall 123 = .ok (.invokevirtual 601, 3) := by decide +kernel
theorem dX45_classesCall_126 : decode cX45_classesCall 126 = .ok (.i2l, 1) := by decide +kernel
theorem dX45_classesCall_127 : decode cX45_classesCall 127 = .ok (.lreturn, 1) := by decide +kernel
theorem dX45_classesCall_128 : decode cX45_classesCall 128 = .ok (.aload_n 0, 1) := by decide +kernel
theorem dX45_classesCall_129 : decode cX45_classesCall 129 = .ok (.getfield 379, 3) := by decide +kernel
theorem dX45_classesCall_132 : decode cX45_classesCall 132 = .ok (.aload_n 0, 1) := by decide +kernel
theorem dX45_classesCall_133 : decode cX45_classesCall 133 = .ok (.getfield 424, 3) := by decide +kernel
theorem dX45_classesCall_136 : decode cX45_classesCall 136 = .ok (.iconst 0, 1) := by decide +kernel
theorem dX45_classesCall_137 : decode cX45_classesCall 137 = .ok (.laload, 1) := by decide +kernel
theorem dX45_classesCall_138 : decode cX45_classesCall 138 = .ok (.l2i, 1) := by decide +kernel
theorem dX45_classesCall_139 : decode cX45_classesCall 139 = .ok (.invokevirtual 894, 3) := by decide +kernel
theorem dX45_classesCall_142 : decode cX45_classesCall 142 = .ok (.i2l, 1) := by decide +kernel
theorem dX45_classesCall_143 : decode cX45_classesCall 143 = .ok (.lreturn, 1) := by decide +kernel
theorem dX45_classesCall_144 : decode cX45_classesCall 144 = .ok (.aload_n 0, 1) := by decide +kernel
theorem dX45_classesCall_145 : decode cX45_classesCall 145 = .ok (.getfield 379, 3) := by decide +kernel
theorem dX45_classesCall_148 : decode cX45_classesCall 148 = .ok (.aload_n 0, 1) := by decide +kernel
theorem dX45_classesCall_149 : decode cX45_classesCall 149 = .ok (.getfield 424, 3) := by decide +kernel
theorem dX45_classesCall_152 : decode cX45_classesCall 152 = .ok (.iconst 0, 1) := by decide +kernel
theorem dX45_classesCall_153 : decode cX45_classesCall 153 = .ok (.laload, 1) := by decide +kernel
theorem dX45_classesCall_154 : decode cX45_classesCall 154 = .ok (.l2i, 1) := by decide +kernel
theorem dX45_classesCall_155 : decode cX45_classesCall 155 = .ok (.invokevirtual 896, 3) := by decide +kernel
theorem dX45_classesCall_158 : decode cX45_classesCall 158 = .ok (.i2l, 1) := by decide +kernel
theorem dX45_classesCall_159 : decode cX45_classesCall 159 = .ok (.lreturn, 1) := by decide +kernel
theorem dX45_classesCall_160 : decode cX45_classesCall 160 = .ok (.aload_n 0, 1) := by decide +kernel
theorem dX45_classesCall_161 : decode cX45_classesCall 161 = .ok (.getfield 379, 3) := by decide +kernel
theorem dX45_classesCall_164 : decode cX45_classesCall 164 = .ok (.aload_n 0, 1) := by decide +kernel
theorem dX45_classesCall_165 : decode cX45_classesCall 165 = .ok (.getfield 424, 3) := by decide +kernel
theorem dX45_classesCall_168 : decode cX45_classesCall 168 = .ok (.iconst 0, 1) := by decide +kernel
theorem dX45_classesCall_169 : decode cX45_classesCall 169 = .ok (.laload, 1) := by decide +kernel
theorem dX45_classesCall_170 : decode cX45_classesCall 170 = .ok (.l2i, 1) := by decide +kernel
theorem dX45_classesCall_171 : decode cX45_classesCall 171 = .ok (.aload_n 0, 1) := by decide +kernel
theorem dX45_classesCall_172 : decode cX45_classesCall 172 = .ok (.getfield 424, 3) := by decide +kernel
theorem dX45_classesCall_175 : decode cX45_classesCall 175 = .ok (.iconst 1, 1) := by decide +kernel
theorem dX45_classesCall_176 : decode cX45_classesCall 176 = .ok (.laload, 1) := by decide +kernel
theorem dX45_classesCall_177 : decode cX45_classesCall 177 = .ok (.l2i, 1) := by decide +kernel
theorem dX45_classesCall_178 : decode cX45_classesCall 178 = .ok (.invokevirtual 899, 3) := by decide +kernel
theorem dX45_classesCall_181 : decode cX45_classesCall 181 = .ok (.i2l, 1) := by decide +kernel
theorem dX45_classesCall_182 : decode cX45_classesCall 182 = .ok (.lreturn, 1) := by decide +kernel
theorem dX45_classesCall_183 : decode cX45_classesCall 183 = .ok (.aload_n 0, 1) := by decide +kernel
theorem dX45_classesCall_184 : decode cX45_classesCall 184 = .ok (.getfield 379, 3) := by decide +kernel
theorem dX45_classesCall_187 : decode cX45_classesCall 187 = .ok (.aload_n 0, 1) := by decide +kernel
theorem dX45_classesCall_188 : decode cX45_classesCall 188 = .ok (.getfield 424, 3) := by decide +kernel
theorem dX45_classesCall_191 : decode cX45_classesCall 191 = .ok (.iconst 0, 1) := by decide +kernel
theorem dX45_classesCall_192 : decode cX45_classesCall 192 = .ok (.laload, 1) := by decide +kernel
theorem dX45_classesCall_193 : decode cX45_classesCall 193 = .ok (.l2i, 1) := by decide +kernel
theorem dX45_classesCall_194 : decode cX45_classesCall 194 = .ok (.aload_n 0, 1) := by decide +kernel
theorem dX45_classesCall_195 : decode cX45_classesCall 195 = .ok (.getfield 424, 3) := by decide +kernel
theorem dX45_classesCall_198 : decode cX45_classesCall 198 = .ok (.iconst 1, 1) := by decide +kernel
theorem dX45_classesCall_199 : decode cX45_classesCall 199 = .ok (.laload, 1) := by decide +kernel
theorem dX45_classesCall_200 : decode cX45_classesCall 200 = .ok (.l2i, 1) := by decide +kernel
theorem dX45_classesCall_201 : decode cX45_classesCall 201 = .ok (.invokevirtual 902, 3) := by decide +kernel
theorem dX45_classesCall_204 : decode cX45_classesCall 204 = .ok (.i2l, 1) := by decide +kernel
theorem dX45_classesCall_205 : decode cX45_classesCall 205 = .ok (.lreturn, 1) := by decide +kernel
theorem dX45_classesCall_206 : decode cX45_classesCall 206 = .ok (.aload_n 0, 1) := by decide +kernel
theorem dX45_classesCall_207 : decode cX45_classesCall 207 = .ok (.getfield 379, 3) := by decide +kernel
theorem dX45_classesCall_210 : decode cX45_classesCall 210 = .ok (.invokevirtual 618, 3) := by decide +kernel
theorem dX45_classesCall_213 : decode cX45_classesCall 213 = .ok (.i2l, 1) := by decide +kernel
theorem dX45_classesCall_214 : decode cX45_classesCall 214 = .ok (.lreturn, 1) := by decide +kernel
theorem dX45_classesCall_215 : decode cX45_classesCall 215 = .ok (.aload_n 0, 1) := by decide +kernel
theorem dX45_classesCall_216 : decode cX45_classesCall 216 = .ok (.getfield 379, 3) := by decide +kernel
theorem dX45_classesCall_219 : decode cX45_classesCall 219 = .ok (.aload_n 0, 1) := by decide +kernel
theorem dX45_classesCall_220 : decode cX45_classesCall 220 = .ok (.getfield 424, 3) := by decide +kernel
theorem dX45_classesCall_223 : decode cX45_classesCall 223 = .ok (.iconst 0, 1) := by decide +kernel
theorem dX45_classesCall_224 : decode cX45_classesCall 224 = .ok (.laload, 1) := by decide +kernel
theorem dX45_classesCall_225 : decode cX45_classesCall 225 = .ok (.l2i, 1) := by decide +kernel
theorem dX45_classesCall_226 : decode cX45_classesCall 226 = .ok (.aload_n 0, 1) := by decide +kernel
theorem dX45_classesCall_227 : decode cX45_classesCall 227 = .ok (.getfield 424, 3) := by decide +kernel
theorem dX45_classesCall_230 : decode cX45_classesCall 230 = .ok (.iconst 1, 1) := by decide +kernel
theorem dX45_classesCall_231 : decode cX45_classesCall 231 = .ok (.laload, 1) := by decide +kernel
theorem dX45_classesCall_232 : decode cX45_classesCall 232 = .ok (.l2i, 1) := by decide +kernel
theorem dX45_classesCall_233 : decode cX45_classesCall 233 = .ok (.invokevirtual 624, 3) := by decide +kernel
theorem dX45_classesCall_236 : decode cX45_classesCall 236 = .ok (.i2l, 1) := by decide +kernel
theorem dX45_classesCall_237 : decode cX45_classesCall 237 = .ok (.lreturn, 1) := by decide +kernel
theorem dX45_classesCall_238 : decode cX45_classesCall 238 = .ok (.aload_n 0, 1) := by decide +kernel
theorem dX45_classesCall_239 : decode cX45_classesCall 239 = .ok (.getfield 379, 3) := by decide +kernel
theorem dX45_classesCall_242 : decode cX45_classesCall 242 = .ok (.aload_n 0, 1) := by decide +kernel
theorem dX45_classesCall_243 : decode cX45_classesCall 243 = .ok (.getfield 424, 3) := by decide +kernel
theorem dX45_classesCall_246 : decode cX45_classesCall 246 = .ok (.iconst 0, 1) := by decide +kernel
theorem dX45_classesCall_247 : decode cX45_classesCall 247 = .ok (.laload, 1) := by decide +kernel
theorem dX45_classesCall_248 : decode cX45_classesCall 248 = .ok (.l2i, 1) := by decide +kernel
theorem dX45_classesCall_249 : decode cX45_classesCall 249 = .ok (.aload_n 0, 1) := by decide +kernel
theorem dX45_classesCall_250 : decode cX45_classesCall 250 = .ok (.getfield 424, 3) := by decide +kernel
theorem dX45_classesCall_253 : decode cX45_classesCall 253 = .ok (.iconst 1, 1) := by decide +kernel
theorem dX45_classesCall_254 : decode cX45_classesCall 254 = .ok (.laload, 1) := by decide +kernel
theorem dX45_classesCall_255 : decode cX45_classesCall 255 = .ok (.l2i, 1) := by decide +kernel
theorem dX45_classesCall_256 : decode cX45_classesCall 256 = .ok (.invokevirtual 903, 3) := by decide +kernel
theorem dX45_classesCall_259 : decode cX45_classesCall 259 = .ok (.i2l, 1) := by decide +kernel
theorem dX45_classesCall_260 : decode cX45_classesCall 260 = .ok (.lreturn, 1) := by decide +kernel
theorem dX45_classesCall_261 : decode cX45_classesCall 261 = .ok (.aload_n 0, 1) := by decide +kernel
theorem dX45_classesCall_262 : decode cX45_classesCall 262 = .ok (.getfield 379, 3) := by decide +kernel
theorem dX45_classesCall_265 : decode cX45_classesCall 265 = .ok (.aload_n 0, 1) := by decide +kernel
theorem dX45_classesCall_266 : decode cX45_classesCall 266 = .ok (.getfield 424, 3) := by decide +kernel
theorem dX45_classesCall_269 : decode cX45_classesCall 269 = .ok (.iconst 0, 1) := by decide +kernel
theorem dX45_classesCall_270 : decode cX45_classesCall 270 = .ok (.laload, 1) := by decide +kernel
theorem dX45_classesCall_271 : decode cX45_classesCall 271 = .ok (.l2i, 1) := by decide +kernel
theorem dX45_classesCall_272 : decode cX45_classesCall 272 = .ok (.aload_n 0, 1) := by decide +kernel
theorem dX45_classesCall_273 : decode cX45_classesCall 273 = .ok (.getfield 424, 3) := by decide +kernel
theorem dX45_classesCall_276 : decode cX45_classesCall 276 = .ok (.iconst 1, 1) := by decide +kernel
theorem dX45_classesCall_277 : decode cX45_classesCall 277 = .ok (.laload, 1) := by decide +kernel
theorem dX45_classesCall_278 : decode cX45_classesCall 278 = .ok (.l2i, 1) := by decide +kernel
theorem dX45_classesCall_279 : decode cX45_classesCall 279 = .ok (.invokevirtual 906, 3) := by decide +kernel
theorem dX45_classesCall_282 : decode cX45_classesCall 282 = .ok (.i2l, 1) := by decide +kernel
theorem dX45_classesCall_283 : decode cX45_classesCall 283 = .ok (.lreturn, 1) := by decide +kernel
theorem dX45_classesCall_284 : decode cX45_classesCall 284 = .ok (.aload_n 0, 1) := by decide +kernel
theorem dX45_classesCall_285 : decode cX45_classesCall 285 = .ok (.getfield 379, 3) := by decide +kernel
theorem dX45_classesCall_288 : decode cX45_classesCall 288 = .ok (.aload_n 0, 1) := by decide +kernel
theorem dX45_classesCall_289 : decode cX45_classesCall 289 = .ok (.getfield 424, 3) := by decide +kernel
theorem dX45_classesCall_292 : decode cX45_classesCall 292 = .ok (.iconst 0, 1) := by decide +kernel
theorem dX45_classesCall_293 : decode cX45_classesCall 293 = .ok (.laload, 1) := by decide +kernel
theorem dX45_classesCall_294 : decode cX45_classesCall 294 = .ok (.l2i, 1) := by decide +kernel
theorem dX45_classesCall_295 : decode cX45_classesCall 295 = .ok (.invokevirtual 908, 3) := by decide +kernel
theorem dX45_classesCall_298 : decode cX45_classesCall 298 = .ok (.i2l, 1) := by decide +kernel
theorem dX45_classesCall_299 : decode cX45_classesCall 299 = .ok (.lreturn, 1) := by decide +kernel
theorem dX45_classesCall_300 : decode cX45_classesCall 300 = .ok (.aload_n 0, 1) := by decide +kernel
theorem dX45_classesCall_301 : decode cX45_classesCall 301 = .ok (.getfield 379, 3) := by decide +kernel
theorem dX45_classesCall_304 : decode cX45_classesCall 304 = .ok (.aload_n 0, 1) := by decide +kernel
theorem dX45_classesCall_305 : decode cX45_classesCall 305 = .ok (.getfield 424, 3) := by decide +kernel
theorem dX45_classesCall_308 : decode cX45_classesCall 308 = .ok (.iconst 0, 1) := by decide +kernel
theorem dX45_classesCall_309 : decode cX45_classesCall 309 = .ok (.laload, 1) := by decide +kernel
theorem dX45_classesCall_310 : decode cX45_classesCall 310 = .ok (.l2i, 1) := by decide +kernel
theorem dX45_classesCall_311 : decode cX45_classesCall 311 = .ok (.invokevirtual 911, 3) := by decide +kernel
theorem dX45_classesCall_314 : decode cX45_classesCall 314 = .ok (.i2l, 1) := by decide +kernel
theorem dX45_classesCall_315 : decode cX45_classesCall 315 = .ok (.lreturn, 1) := by decide +kernel
theorem dX45_classesCall_316 : decode cX45_classesCall 316 = .ok (.aload_n 0, 1) := by decide +kernel
theorem dX45_classesCall_317 : decode cX45_classesCall 317 = .ok (.getfield 379, 3) := by decide +kernel
theorem dX45_classesCall_320 : decode cX45_classesCall 320 = .ok (.aload_n 0, 1) := by decide +kernel
theorem dX45_classesCall_321 : decode cX45_classesCall 321 = .ok (.getfield 424, 3) := by decide +kernel
theorem dX45_classesCall_324 : decode cX45_classesCall 324 = .ok (.iconst 0, 1) := by decide +kernel
theorem dX45_classesCall_325 : decode cX45_classesCall 325 = .ok (.laload, 1) := by decide +kernel
theorem dX45_classesCall_326 : decode cX45_classesCall 326 = .ok (.l2i, 1) := by decide +kernel
theorem dX45_classesCall_327 : decode cX45_classesCall 327 = .ok (.aload_n 0, 1) := by decide +kernel
theorem dX45_classesCall_328 : decode cX45_classesCall 328 = .ok (.getfield 424, 3) := by decide +kernel
theorem dX45_classesCall_331 : decode cX45_classesCall 331 = .ok (.iconst 1, 1) := by decide +kernel
theorem dX45_classesCall_332 : decode cX45_classesCall 332 = .ok (.laload, 1) := by decide +kernel
theorem dX45_classesCall_333 : decode cX45_classesCall 333 = .ok (.l2i, 1) := by decide +kernel
theorem dX45_classesCall_334 : decode cX45_classesCall 334 = .ok (.invokevirtual 611, 3) := by decide +kernel
theorem dX45_classesCall_337 : decode cX45_classesCall 337 = .ok (.i2l, 1) := by decide +kernel
theorem dX45_classesCall_338 : decode cX45_classesCall 338 = .ok (.lreturn, 1) := by decide +kernel
theorem dX45_classesCall_339 : decode cX45_classesCall 339 = .ok (.aload_n 0, 1) := by decide +kernel
theorem dX45_classesCall_340 : decode cX45_classesCall 340 = .ok (.getfield 379, 3) := by decide +kernel
theorem dX45_classesCall_343 : decode cX45_classesCall 343 = .ok (.aload_n 0, 1) := by decide +kernel
theorem dX45_classesCall_344 : decode cX45_classesCall 344 = .ok (.getfield 424, 3) := by decide +kernel
theorem dX45_classesCall_347 : decode cX45_classesCall 347 = .ok (.iconst 0, 1) := by decide +kernel
theorem dX45_classesCall_348 : decode cX45_classesCall 348 = .ok (.laload, 1) := by decide +kernel
theorem dX45_classesCall_349 : decode cX45_classesCall 349 = .ok (.l2i, 1) := by decide +kernel
theorem dX45_classesCall_350 : decode cX45_classesCall 350 = .ok (.aload_n 0, 1) := by decide +kernel
theorem dX45_classesCall_351 : decode cX45_classesCall 351 = .ok (.getfield 424, 3) := by decide +kernel
theorem dX45_classesCall_354 : decode cX45_classesCall 354 = .ok (.iconst 1, 1) := by decide +kernel
theorem dX45_classesCall_355 : decode cX45_classesCall 355 = .ok (.laload, 1) := by decide +kernel
theorem dX45_classesCall_356 : decode cX45_classesCall 356 = .ok (.l2i, 1) := by decide +kernel
theorem dX45_classesCall_357 : decode cX45_classesCall 357 = .ok (.invokevirtual 914, 3) := by decide +kernel
theorem dX45_classesCall_360 : decode cX45_classesCall 360 = .ok (.i2l, 1) := by decide +kernel
theorem dX45_classesCall_361 : decode cX45_classesCall 361 = .ok (.lreturn, 1) := by decide +kernel
theorem dX45_classesCall_362 : decode cX45_classesCall 362 = .ok (.aload_n 0, 1) := by decide +kernel
theorem dX45_classesCall_363 : decode cX45_classesCall 363 = .ok (.getfield 379, 3) := by decide +kernel
theorem dX45_classesCall_366 : decode cX45_classesCall 366 = .ok (.aload_n 0, 1) := by decide +kernel
theorem dX45_classesCall_367 : decode cX45_classesCall 367 = .ok (.getfield 424, 3) := by decide +kernel
theorem dX45_classesCall_370 : decode cX45_classesCall 370 = .ok (.iconst 0, 1) := by decide +kernel
theorem dX45_classesCall_371 : decode cX45_classesCall 371 = .ok (.laload, 1) := by decide +kernel
theorem dX45_classesCall_372 : decode cX45_classesCall 372 = .ok (.l2i, 1) := by decide +kernel
theorem dX45_classesCall_373 : decode cX45_classesCall 373 = .ok (.aload_n 0, 1) := by decide +kernel
theorem dX45_classesCall_374 : decode cX45_classesCall 374 = .ok (.getfield 424, 3) := by decide +kernel
theorem dX45_classesCall_377 : decode cX45_classesCall 377 = .ok (.iconst 1, 1) := by decide +kernel
theorem dX45_classesCall_378 : decode cX45_classesCall 378 = .ok (.laload, 1) := by decide +kernel
theorem dX45_classesCall_379 : decode cX45_classesCall 379 = .ok (.l2i, 1) := by decide +kernel
theorem dX45_classesCall_380 : decode cX45_classesCall 380 = .ok (.aload_n 0, 1) := by decide +kernel
theorem dX45_classesCall_381 : decode cX45_classesCall 381 = .ok (.getfield 424, 3) := by decide +kernel
theorem dX45_classesCall_384 : decode cX45_classesCall 384 = .ok (.iconst 2, 1) := by decide +kernel
theorem dX45_classesCall_385 : decode cX45_classesCall 385 = .ok (.laload, 1) := by decide +kernel
theorem dX45_classesCall_386 : decode cX45_classesCall 386 = .ok (.l2i, 1) := by decide +kernel
theorem dX45_classesCall_387 : decode cX45_classesCall 387 = .ok (.invokevirtual 916, 3) := by decide +kernel
theorem dX45_classesCall_390 : decode cX45_classesCall 390 = .ok (.i2l, 1) := by decide +kernel
theorem dX45_classesCall_391 : decode cX45_classesCall 391 = .ok (.lreturn, 1) := by decide +kernel
theorem dX45_classesCall_392 : decode cX45_classesCall 392 = .ok (.aload_n 0, 1) := by decide +kernel
theorem dX45_classesCall_393 : decode cX45_classesCall 393 = .ok (.getfield 379, 3) := by decide +kernel
theorem dX45_classesCall_396 : decode cX45_classesCall 396 = .ok (.aload_n 0, 1) := by decide +kernel
theorem dX45_classesCall_397 : decode cX45_classesCall 397 = .ok (.getfield 424, 3) := by decide +kernel
theorem dX45_classesCall_400 : decode cX45_classesCall 400 = .ok (.iconst 0, 1) := by decide +kernel
theorem dX45_classesCall_401 : decode cX45_classesCall 401 = .ok (.laload, 1) := by decide +kernel
theorem dX45_classesCall_402 : decode cX45_classesCall 402 = .ok (.l2i, 1) := by decide +kernel
theorem dX45_classesCall_403 : decode cX45_classesCall 403 = .ok (.invokevirtual 621, 3) := by decide +kernel
theorem dX45_classesCall_406 : decode cX45_classesCall 406 = .ok (.i2l, 1) := by decide +kernel
theorem dX45_classesCall_407 : decode cX45_classesCall 407 = .ok (.lreturn, 1) := by decide +kernel
abbrev cX45_facetsCall : ByteArray := prog_78_method_41_code
def yX45_facetsCall : MethodName := ⟨RX45, "facetsCall", "(I)J"⟩
theorem dX45_facetsCall_0 : decode cX45_facetsCall 0 = .ok (.iload_n 1, 1) := by decide +kernel
theorem dX45_facetsCall_1 : decode cX45_facetsCall 1 = .ok (.tableswitch 321 0 10 #[59, 89, 119, 142, 181, 190, 206, 229, 252, 282, 312], 59) := by decide +kernel
theorem dX45_facetsCall_60 : decode cX45_facetsCall 60 = .ok (.aload_n 0, 1) := by decide +kernel
theorem dX45_facetsCall_61 : decode cX45_facetsCall 61 = .ok (.getfield 385, 3) := by decide +kernel
theorem dX45_facetsCall_64 : decode cX45_facetsCall 64 = .ok (.aload_n 0, 1) := by decide +kernel
theorem dX45_facetsCall_65 : decode cX45_facetsCall 65 = .ok (.getfield 424, 3) := by decide +kernel
theorem dX45_facetsCall_68 : decode cX45_facetsCall 68 = .ok (.iconst 0, 1) := by decide +kernel
theorem dX45_facetsCall_69 : decode cX45_facetsCall 69 = .ok (.laload, 1) := by decide +kernel
theorem dX45_facetsCall_70 : decode cX45_facetsCall 70 = .ok (.l2i, 1) := by decide +kernel
theorem dX45_facetsCall_71 : decode cX45_facetsCall 71 = .ok (.aload_n 0, 1) := by decide +kernel
theorem dX45_facetsCall_72 : decode cX45_facetsCall 72 = .ok (.getfield 424, 3) := by decide +kernel
theorem dX45_facetsCall_75 : decode cX45_facetsCall 75 = .ok (.iconst 1, 1) := by decide +kernel
theorem dX45_facetsCall_76 : decode cX45_facetsCall 76 = .ok (.laload, 1) := by decide +kernel
theorem dX45_facetsCall_77 : decode cX45_facetsCall 77 = .ok (.l2i, 1) := by decide +kernel
theorem dX45_facetsCall_78 : decode cX45_facetsCall 78 = .ok (.aload_n 0, 1) := by decide +kernel
theorem dX45_facetsCall_79 : decode cX45_facetsCall 79 = .ok (.getfield 424, 3) := by decide +kernel
theorem dX45_facetsCall_82 : decode cX45_facetsCall 82 = .ok (.iconst 2, 1) := by decide +kernel
theorem dX45_facetsCall_83 : decode cX45_facetsCall 83 = .ok (.laload, 1) := by decide +kernel
theorem dX45_facetsCall_84 : decode cX45_facetsCall 84 = .ok (.l2i, 1) := by decide +kernel
theorem dX45_facetsCall_85 : decode cX45_facetsCall 85 = .ok (.invokevirtual 532, 3) := by decide +kernel
theorem dX45_facetsCall_88 : decode cX45_facetsCall 88 = .ok (.i2l, 1) := by decide +kernel
theorem dX45_facetsCall_89 : decode cX45_facetsCall 89 = .ok (.lreturn, 1) := by decide +kernel
theorem dX45_facetsCall_90 : decode cX45_facetsCall 90 = .ok (.aload_n 0, 1) := by decide +kernel
theorem dX45_facetsCall_91 : decode cX45_facetsCall 91 = .ok (.getfield 385, 3) := by decide +kernel
theorem dX45_facetsCall_94 : decode cX45_facetsCall 94 = .ok (.aload_n 0, 1) := by decide +kernel
theorem dX45_facetsCall_95 : decode cX45_facetsCall 95 = .ok (.getfield 424, 3) := by decide +kernel
theorem dX45_facetsCall_98 : decode cX45_facetsCall 98 = .ok (.iconst 0, 1) := by decide +kernel
theorem dX45_facetsCall_99 : decode cX45_facetsCall 99 = .ok (.laload, 1) := by decide +kernel
theorem dX45_facetsCall_100 : decode cX45_facetsCall 100 = .ok (.l2i, 1) := by decide +kernel
theorem dX45_facetsCall_101 : decode cX45_facetsCall 101 = .ok (.aload_n 0, 1) := by decide +kernel
theorem dX45_facetsCall_102 : decode cX45_facetsCall 102 = .ok (.getfield 424, 3) := by decide +kernel
theorem dX45_facetsCall_105 : decode cX45_facetsCall 105 = .ok (.iconst 1, 1) := by decide +kernel
theorem dX45_facetsCall_106 : decode cX45_facetsCall 106 = .ok (.laload, 1) := by decide +kernel
theorem dX45_facetsCall_107 : decode cX45_facetsCall 107 = .ok (.l2i, 1) := by decide +kernel
theorem dX45_facetsCall_108 : decode cX45_facetsCall 108 = .ok (.aload_n 0, 1) := by decide +kernel
theorem dX45_facetsCall_109 : decode cX45_facetsCall 109 = .ok (.getfield 424, 3) := by decide +kernel
theorem dX45_facetsCall_112 : decode cX45_facetsCall 112 = .ok (.iconst 2, 1) := by decide +kernel
theorem dX45_facetsCall_113 : decode cX45_facetsCall 113 = .ok (.laload, 1) := by decide +kernel
theorem dX45_facetsCall_114 : decode cX45_facetsCall 114 = .ok (.l2i, 1) := by decide +kernel
theorem dX45_facetsCall_115 : decode cX45_facetsCall 115 = .ok (.invokevirtual 536, 3) := by decide +kernel
theorem dX45_facetsCall_118 : decode cX45_facetsCall 118 = .ok (.i2l, 1) := by decide +kernel
theorem dX45_facetsCall_119 : decode cX45_facetsCall 119 = .ok (.lreturn, 1) := by decide +kernel
theorem dX45_facetsCall_120 : decode cX45_facetsCall 120 = .ok (.aload_n 0, 1) := by decide +kernel
theorem dX45_facetsCall_121 : decode cX45_facetsCall 121 = .ok (.getfield 385, 3) := by decide +kernel
theorem dX45_facetsCall_124 : decode cX45_facetsCall 124 = .ok (.aload_n 0, 1) := by decide +kernel
theorem dX45_facetsCall_125 : decode cX45_facetsCall 125 = .ok (.getfield 424, 3) := by decide +kernel
theorem dX45_facetsCall_128 : decode cX45_facetsCall 128 = .ok (.iconst 0, 1) := by decide +kernel
theorem dX45_facetsCall_129 : decode cX45_facetsCall 129 = .ok (.laload, 1) := by decide +kernel
theorem dX45_facetsCall_130 : decode cX45_facetsCall 130 = .ok (.l2i, 1) := by decide +kernel
theorem dX45_facetsCall_131 : decode cX45_facetsCall 131 = .ok (.aload_n 0, 1) := by decide +kernel
theorem dX45_facetsCall_132 : decode cX45_facetsCall 132 = .ok (.getfield 424, 3) := by decide +kernel
theorem dX45_facetsCall_135 : decode cX45_facetsCall 135 = .ok (.iconst 1, 1) := by decide +kernel
theorem dX45_facetsCall_136 : decode cX45_facetsCall 136 = .ok (.laload, 1) := by decide +kernel
theorem dX45_facetsCall_137 : decode cX45_facetsCall 137 = .ok (.l2i, 1) := by decide +kernel
theorem dX45_facetsCall_138 : decode cX45_facetsCall 138 = .ok (.invokevirtual 604, 3) := by decide +kernel
theorem dX45_facetsCall_141 : decode cX45_facetsCall 141 = .ok (.i2l, 1) := by decide +kernel
theorem dX45_facetsCall_142 : decode cX45_facetsCall 142 = .ok (.lreturn, 1) := by decide +kernel
theorem dX45_facetsCall_143 : decode cX45_facetsCall 143 = .ok (.aload_n 0, 1) := by decide +kernel
theorem dX45_facetsCall_144 : decode cX45_facetsCall 144 = .ok (.getfield 385, 3) := by decide +kernel
theorem dX45_facetsCall_147 : decode cX45_facetsCall 147 = .ok (.aload_n 0, 1) := by decide +kernel
theorem dX45_facetsCall_148 : decode cX45_facetsCall 148 = .ok (.getfield 424, 3) := by decide +kernel
theorem dX45_facetsCall_151 : decode cX45_facetsCall 151 = .ok (.iconst 0, 1) := by decide +kernel
theorem dX45_facetsCall_152 : decode cX45_facetsCall 152 = .ok (.laload, 1) := by decide +kernel
theorem dX45_facetsCall_153 : decode cX45_facetsCall 153 = .ok (.l2i, 1) := by decide +kernel
theorem dX45_facetsCall_154 : decode cX45_facetsCall 154 = .ok (.aload_n 0, 1) := by decide +kernel
theorem dX45_facetsCall_155 : decode cX45_facetsCall 155 = .ok (.getfield 424, 3) := by decide +kernel
theorem dX45_facetsCall_158 : decode cX45_facetsCall 158 = .ok (.iconst 1, 1) := by decide +kernel
theorem dX45_facetsCall_159 : decode cX45_facetsCall 159 = .ok (.laload, 1) := by decide +kernel
theorem dX45_facetsCall_160 : decode cX45_facetsCall 160 = .ok (.l2i, 1) := by decide +kernel
theorem dX45_facetsCall_161 : decode cX45_facetsCall 161 = .ok (.aload_n 0, 1) := by decide +kernel
theorem dX45_facetsCall_162 : decode cX45_facetsCall 162 = .ok (.getfield 424, 3) := by decide +kernel
theorem dX45_facetsCall_165 : decode cX45_facetsCall 165 = .ok (.iconst 2, 1) := by decide +kernel
theorem dX45_facetsCall_166 : decode cX45_facetsCall 166 = .ok (.laload, 1) := by decide +kernel
theorem dX45_facetsCall_167 : decode cX45_facetsCall 167 = .ok (.lconst 1, 1) := by decide +kernel
theorem dX45_facetsCall_168 : decode cX45_facetsCall 168 = .ok (.lcmp, 1) := by decide +kernel
theorem dX45_facetsCall_169 : decode cX45_facetsCall 169 = .ok (.ifCond .ne 7, 3) := by decide +kernel
theorem dX45_facetsCall_172 : decode cX45_facetsCall 172 = .ok (.iconst 1, 1) := by decide +kernel
theorem dX45_facetsCall_173 : decode cX45_facetsCall 173 = .ok (.goto 4, 3) := by decide +kernel
theorem dX45_facetsCall_176 : decode cX45_facetsCall 176 = .ok (.iconst 0, 1) := by decide +kernel
theorem dX45_facetsCall_177 : decode cX45_facetsCall 177 = .ok (.invokevirtual 919, 3) := by decide +kernel
theorem dX45_facetsCall_180 : decode cX45_facetsCall 180 = .ok (.i2l, 1) := by decide +kernel
theorem dX45_facetsCall_181 : decode cX45_facetsCall 181 = .ok (.lreturn, 1) := by decide +kernel
theorem dX45_facetsCall_182 : decode cX45_facetsCall 182 = .ok (.aload_n 0, 1) := by decide +kernel
theorem dX45_facetsCall_183 : decode cX45_facetsCall 183 = .ok (.getfield 385, 3) := by decide +kernel
theorem dX45_facetsCall_186 : decode cX45_facetsCall 186 = .ok (.invokevirtual 635, 3) := by decide +kernel
theorem dX45_facetsCall_189 : decode cX45_facetsCall 189 = .ok (.i2l, 1) := by decide +kernel
theorem dX45_facetsCall_190 : decode cX45_facetsCall 190 = .ok (.lreturn, 1) := by decide +kernel
theorem dX45_facetsCall_191 : decode cX45_facetsCall 191 = .ok (.aload_n 0, 1) := by decide +kernel
theorem dX45_facetsCall_192 : decode cX45_facetsCall 192 = .ok (.getfield 385, 3) := by decide +kernel
theorem dX45_facetsCall_195 : decode cX45_facetsCall 195 = .ok (.aload_n 0, 1) := by decide +kernel
theorem dX45_facetsCall_196 : decode cX45_facetsCall 196 = .ok (.getfield 424, 3) := by decide +kernel
theorem dX45_facetsCall_199 : decode cX45_facetsCall 199 = .ok (.iconst 0, 1) := by decide +kernel
theorem dX45_facetsCall_200 : decode cX45_facetsCall 200 = .ok (.laload, 1) := by decide +kernel
theorem dX45_facetsCall_201 : decode cX45_facetsCall 201 = .ok (.l2i, 1) := by decide +kernel
theorem dX45_facetsCall_202 : decode cX45_facetsCall 202 = .ok (.invokevirtual 922, 3) := by decide +kernel
theorem dX45_facetsCall_205 : decode cX45_facetsCall 205 = .ok (.i2l, 1) := by decide +kernel
theorem dX45_facetsCall_206 : decode cX45_facetsCall 206 = .ok (.lreturn, 1) := by decide +kernel
theorem dX45_facetsCall_207 : decode cX45_facetsCall 207 = .ok (.aload_n 0, 1) := by decide +kernel
theorem dX45_facetsCall_208 : decode cX45_facetsCall 208 = .ok (.getfield 385, 3) := by decide +kernel
theorem dX45_facetsCall_211 : decode cX45_facetsCall 211 = .ok (.aload_n 0, 1) := by decide +kernel
theorem dX45_facetsCall_212 : decode cX45_facetsCall 212 = .ok (.getfield 424, 3) := by decide +kernel
theorem dX45_facetsCall_215 : decode cX45_facetsCall 215 = .ok (.iconst 0, 1) := by decide +kernel
theorem dX45_facetsCall_216 : decode cX45_facetsCall 216 = .ok (.laload, 1) := by decide +kernel
theorem dX45_facetsCall_217 : decode cX45_facetsCall 217 = .ok (.l2i, 1) := by decide +kernel
theorem dX45_facetsCall_218 : decode cX45_facetsCall 218 = .ok (.aload_n 0, 1) := by decide +kernel
theorem dX45_facetsCall_219 : decode cX45_facetsCall 219 = .ok (.getfield 424, 3) := by decide +kernel
theorem dX45_facetsCall_222 : decode cX45_facetsCall 222 = .ok (.iconst 1, 1) := by decide +kernel
theorem dX45_facetsCall_223 : decode cX45_facetsCall 223 = .ok (.laload, 1) := by decide +kernel
theorem dX45_facetsCall_224 : decode cX45_facetsCall 224 = .ok (.l2i, 1) := by decide +kernel
theorem dX45_facetsCall_225 : decode cX45_facetsCall 225 = .ok (.invokevirtual 925, 3) := by decide +kernel
theorem dX45_facetsCall_228 : decode cX45_facetsCall 228 = .ok (.i2l, 1) := by decide +kernel
theorem dX45_facetsCall_229 : decode cX45_facetsCall 229 = .ok (.lreturn, 1) := by decide +kernel
theorem dX45_facetsCall_230 : decode cX45_facetsCall 230 = .ok (.aload_n 0, 1) := by decide +kernel
theorem dX45_facetsCall_231 : decode cX45_facetsCall 231 = .ok (.getfield 385, 3) := by decide +kernel
theorem dX45_facetsCall_234 : decode cX45_facetsCall 234 = .ok (.aload_n 0, 1) := by decide +kernel
theorem dX45_facetsCall_235 : decode cX45_facetsCall 235 = .ok (.getfield 424, 3) := by decide +kernel
theorem dX45_facetsCall_238 : decode cX45_facetsCall 238 = .ok (.iconst 0, 1) := by decide +kernel
theorem dX45_facetsCall_239 : decode cX45_facetsCall 239 = .ok (.laload, 1) := by decide +kernel
theorem dX45_facetsCall_240 : decode cX45_facetsCall 240 = .ok (.l2i, 1) := by decide +kernel
theorem dX45_facetsCall_241 : decode cX45_facetsCall 241 = .ok (.aload_n 0, 1) := by decide +kernel
theorem dX45_facetsCall_242 : decode cX45_facetsCall 242 = .ok (.getfield 424, 3) := by decide +kernel
theorem dX45_facetsCall_245 : decode cX45_facetsCall 245 = .ok (.iconst 1, 1) := by decide +kernel
theorem dX45_facetsCall_246 : decode cX45_facetsCall 246 = .ok (.laload, 1) := by decide +kernel
theorem dX45_facetsCall_247 : decode cX45_facetsCall 247 = .ok (.l2i, 1) := by decide +kernel
theorem dX45_facetsCall_248 : decode cX45_facetsCall 248 = .ok (.invokevirtual 928, 3) := by decide +kernel
theorem dX45_facetsCall_251 : decode cX45_facetsCall 251 = .ok (.i2l, 1) := by decide +kernel
theorem dX45_facetsCall_252 : decode cX45_facetsCall 252 = .ok (.lreturn, 1) := by decide +kernel
theorem dX45_facetsCall_253 : decode cX45_facetsCall 253 = .ok (.aload_n 0, 1) := by decide +kernel
theorem dX45_facetsCall_254 : decode cX45_facetsCall 254 = .ok (.getfield 385, 3) := by decide +kernel
theorem dX45_facetsCall_257 : decode cX45_facetsCall 257 = .ok (.aload_n 0, 1) := by decide +kernel
theorem dX45_facetsCall_258 : decode cX45_facetsCall 258 = .ok (.getfield 424, 3) := by decide +kernel
theorem dX45_facetsCall_261 : decode cX45_facetsCall 261 = .ok (.iconst 0, 1) := by decide +kernel
theorem dX45_facetsCall_262 : decode cX45_facetsCall 262 = .ok (.laload, 1) := by decide +kernel
theorem dX45_facetsCall_263 : decode cX45_facetsCall 263 = .ok (.l2i, 1) := by decide +kernel
theorem dX45_facetsCall_264 : decode cX45_facetsCall 264 = .ok (.aload_n 0, 1) := by decide +kernel
theorem dX45_facetsCall_265 : decode cX45_facetsCall 265 = .ok (.getfield 424, 3) := by decide +kernel
theorem dX45_facetsCall_268 : decode cX45_facetsCall 268 = .ok (.iconst 1, 1) := by decide +kernel
theorem dX45_facetsCall_269 : decode cX45_facetsCall 269 = .ok (.laload, 1) := by decide +kernel
theorem dX45_facetsCall_270 : decode cX45_facetsCall 270 = .ok (.l2i, 1) := by decide +kernel
theorem dX45_facetsCall_271 : decode cX45_facetsCall 271 = .ok (.aload_n 0, 1) := by decide +kernel
theorem dX45_facetsCall_272 : decode cX45_facetsCall 272 = .ok (.getfield 424, 3) := by decide +kernel
theorem dX45_facetsCall_275 : decode cX45_facetsCall 275 = .ok (.iconst 2, 1) := by decide +kernel
theorem dX45_facetsCall_276 : decode cX45_facetsCall 276 = .ok (.laload, 1) := by decide +kernel
theorem dX45_facetsCall_277 : decode cX45_facetsCall 277 = .ok (.l2i, 1) := by decide +kernel
theorem dX45_facetsCall_278 : decode cX45_facetsCall 278 = .ok (.invokevirtual 931, 3) := by decide +kernel
theorem dX45_facetsCall_281 : decode cX45_facetsCall 281 = .ok (.i2l, 1) := by decide +kernel
theorem dX45_facetsCall_282 : decode cX45_facetsCall 282 = .ok (.lreturn, 1) := by decide +kernel
theorem dX45_facetsCall_283 : decode cX45_facetsCall 283 = .ok (.aload_n 0, 1) := by decide +kernel
theorem dX45_facetsCall_284 : decode cX45_facetsCall 284 = .ok (.getfield 385, 3) := by decide +kernel
theorem dX45_facetsCall_287 : decode cX45_facetsCall 287 = .ok (.aload_n 0, 1) := by decide +kernel
theorem dX45_facetsCall_288 : decode cX45_facetsCall 288 = .ok (.getfield 424, 3) := by decide +kernel
theorem dX45_facetsCall_291 : decode cX45_facetsCall 291 = .ok (.iconst 0, 1) := by decide +kernel
theorem dX45_facetsCall_292 : decode cX45_facetsCall 292 = .ok (.laload, 1) := by decide +kernel
theorem dX45_facetsCall_293 : decode cX45_facetsCall 293 = .ok (.l2i, 1) := by decide +kernel
theorem dX45_facetsCall_294 : decode cX45_facetsCall 294 = .ok (.aload_n 0, 1) := by decide +kernel
theorem dX45_facetsCall_295 : decode cX45_facetsCall 295 = .ok (.getfield 424, 3) := by decide +kernel
theorem dX45_facetsCall_298 : decode cX45_facetsCall 298 = .ok (.iconst 1, 1) := by decide +kernel
theorem dX45_facetsCall_299 : decode cX45_facetsCall 299 = .ok (.laload, 1) := by decide +kernel
theorem dX45_facetsCall_300 : decode cX45_facetsCall 300 = .ok (.l2i, 1) := by decide +kernel
theorem dX45_facetsCall_301 : decode cX45_facetsCall 301 = .ok (.aload_n 0, 1) := by decide +kernel
theorem dX45_facetsCall_302 : decode cX45_facetsCall 302 = .ok (.getfield 424, 3) := by decide +kernel
theorem dX45_facetsCall_305 : decode cX45_facetsCall 305 = .ok (.iconst 2, 1) := by decide +kernel
theorem dX45_facetsCall_306 : decode cX45_facetsCall 306 = .ok (.laload, 1) := by decide +kernel
theorem dX45_facetsCall_307 : decode cX45_facetsCall 307 = .ok (.l2i, 1) := by decide +kernel
theorem dX45_facetsCall_308 : decode cX45_facetsCall 308 = .ok (.invokevirtual 934, 3) := by decide +kernel
theorem dX45_facetsCall_311 : decode cX45_facetsCall 311 = .ok (.i2l, 1) := by decide +kernel
theorem dX45_facetsCall_312 : decode cX45_facetsCall 312 = .ok (.lreturn, 1) := by decide +kernel
theorem dX45_facetsCall_313 : decode cX45_facetsCall 313 = .ok (.aload_n 0, 1) := by decide +kernel
theorem dX45_facetsCall_314 : decode cX45_facetsCall 314 = .ok (.getfield 385, 3) := by decide +kernel
theorem dX45_facetsCall_317 : decode cX45_facetsCall 317 = .ok (.invokevirtual 937, 3) := by decide +kernel
theorem dX45_facetsCall_320 : decode cX45_facetsCall 320 = .ok (.i2l, 1) := by decide +kernel
theorem dX45_facetsCall_321 : decode cX45_facetsCall 321 = .ok (.lreturn, 1) := by decide +kernel
theorem dX45_facetsCall_322 : decode cX45_facetsCall 322 = .ok (.aload_n 0, 1) := by decide +kernel
theorem dX45_facetsCall_323 : decode cX45_facetsCall 323 = .ok (.getfield 385, 3) := by decide +kernel
theorem dX45_facetsCall_326 : decode cX45_facetsCall 326 = .ok (.invokevirtual 940, 3) := by decide +kernel
theorem dX45_facetsCall_329 : decode cX45_facetsCall 329 = .ok (.i2l, 1) := by decide +kernel
theorem dX45_facetsCall_330 : decode cX45_facetsCall 330 = .ok (.lreturn, 1) := by decide +kernel
abbrev cX45_tablesCall : ByteArray := prog_78_method_42_code
def yX45_tablesCall : MethodName := ⟨RX45, "tablesCall", "(I)J"⟩
theorem dX45_tablesCall_0 : decode cX45_tablesCall 0 = .ok (.iload_n 1, 1) := by decide +kernel
theorem dX45_tablesCall_1 : decode cX45_tablesCall 1 = .ok (.tableswitch 375 0 12 #[67, 106, 143, 166, 217, 226, 256, 286, 295, 304, 327, 343, 352], 67) := by decide +kernel
theorem dX45_tablesCall_68 : decode cX45_tablesCall 68 = .ok (.aload_n 0, 1) := by decide +kernel
theorem dX45_tablesCall_69 : decode cX45_tablesCall 69 = .ok (.getfield 391, 3) := by decide +kernel
theorem dX45_tablesCall_72 : decode cX45_tablesCall 72 = .ok (.aload_n 0, 1) := by decide +kernel
theorem dX45_tablesCall_73 : decode cX45_tablesCall 73 = .ok (.getfield 424, 3) := by decide +kernel
theorem dX45_tablesCall_76 : decode cX45_tablesCall 76 = .ok (.iconst 0, 1) := by decide +kernel
theorem dX45_tablesCall_77 : decode cX45_tablesCall 77 = .ok (.laload, 1) := by decide +kernel
theorem dX45_tablesCall_78 : decode cX45_tablesCall 78 = .ok (.l2i, 1) := by decide +kernel
theorem dX45_tablesCall_79 : decode cX45_tablesCall 79 = .ok (.aload_n 0, 1) := by decide +kernel
theorem dX45_tablesCall_80 : decode cX45_tablesCall 80 = .ok (.getfield 424, 3) := by decide +kernel
theorem dX45_tablesCall_83 : decode cX45_tablesCall 83 = .ok (.iconst 1, 1) := by decide +kernel
theorem dX45_tablesCall_84 : decode cX45_tablesCall 84 = .ok (.laload, 1) := by decide +kernel
theorem dX45_tablesCall_85 : decode cX45_tablesCall 85 = .ok (.l2i, 1) := by decide +kernel
theorem dX45_tablesCall_86 : decode cX45_tablesCall 86 = .ok (.aload_n 0, 1) := by decide +kernel
theorem dX45_tablesCall_87 : decode cX45_tablesCall 87 = .ok (.getfield 424, 3) := by decide +kernel
theorem dX45_tablesCall_90 : decode cX45_tablesCall 90 = .ok (.iconst 2, 1) := by decide +kernel
theorem dX45_tablesCall_91 : decode cX45_tablesCall 91 = .ok (.laload, 1) := by decide +kernel
theorem dX45_tablesCall_92 : decode cX45_tablesCall 92 = .ok (.lconst 1, 1) := by decide +kernel
theorem dX45_tablesCall_93 : decode cX45_tablesCall 93 = .ok (.lcmp, 1) := by decide +kernel
theorem dX45_tablesCall_94 : decode cX45_tablesCall 94 = .ok (.ifCond .ne 7, 3) := by decide +kernel
theorem dX45_tablesCall_97 : decode cX45_tablesCall 97 = .ok (.iconst 1, 1) := by decide +kernel
theorem dX45_tablesCall_98 : decode cX45_tablesCall 98 = .ok (.goto 4, 3) := by decide +kernel
theorem dX45_tablesCall_101 : decode cX45_tablesCall 101 = .ok (.iconst 0, 1) := by decide +kernel
theorem dX45_tablesCall_102 : decode cX45_tablesCall 102 = .ok (.invokevirtual 941, 3) := by decide +kernel
theorem dX45_tablesCall_105 : decode cX45_tablesCall 105 = .ok (.i2l, 1) := by decide +kernel
theorem dX45_tablesCall_106 : decode cX45_tablesCall 106 = .ok (.lreturn, 1) := by decide +kernel
theorem dX45_tablesCall_107 : decode cX45_tablesCall 107 = .ok (.aload_n 0, 1) := by decide +kernel
theorem dX45_tablesCall_108 : decode cX45_tablesCall 108 = .ok (.getfield 391, 3) := by decide +kernel
theorem dX45_tablesCall_111 : decode cX45_tablesCall 111 = .ok (.aload_n 0, 1) := by decide +kernel
theorem dX45_tablesCall_112 : decode cX45_tablesCall 112 = .ok (.getfield 424, 3) := by decide +kernel
theorem dX45_tablesCall_115 : decode cX45_tablesCall 115 = .ok (.iconst 0, 1) := by decide +kernel
theorem dX45_tablesCall_116 : decode cX45_tablesCall 116 = .ok (.laload, 1) := by decide +kernel
theorem dX45_tablesCall_117 : decode cX45_tablesCall 117 = .ok (.l2i, 1) := by decide +kernel
theorem dX45_tablesCall_118 : decode cX45_tablesCall 118 = .ok (.aload_n 0, 1) := by decide +kernel
theorem dX45_tablesCall_119 : decode cX45_tablesCall 119 = .ok (.getfield 424, 3) := by decide +kernel
theorem dX45_tablesCall_122 : decode cX45_tablesCall 122 = .ok (.iconst 1, 1) := by decide +kernel
theorem dX45_tablesCall_123 : decode cX45_tablesCall 123 = .ok (.laload, 1) := by decide +kernel
theorem dX45_tablesCall_124 : decode cX45_tablesCall 124 = .ok (.l2i, 1) := by decide +kernel
theorem dX45_tablesCall_125 : decode cX45_tablesCall 125 = .ok (.aload_n 0, 1) := by decide +kernel
theorem dX45_tablesCall_126 : decode cX45_tablesCall 126 = .ok (.getfield 424, 3) := by decide +kernel
theorem dX45_tablesCall_129 : decode cX45_tablesCall 129 = .ok (.iconst 2, 1) := by decide +kernel
theorem dX45_tablesCall_130 : decode cX45_tablesCall 130 = .ok (.laload, 1) := by decide +kernel
theorem dX45_tablesCall_131 : decode cX45_tablesCall 131 = .ok (.l2i, 1) := by decide +kernel
theorem dX45_tablesCall_132 : decode cX45_tablesCall 132 = .ok (.aload_n 0, 1) := by decide +kernel
theorem dX45_tablesCall_133 : decode cX45_tablesCall 133 = .ok (.getfield 424, 3) := by decide +kernel
theorem dX45_tablesCall_136 : decode cX45_tablesCall 136 = .ok (.iconst 3, 1) := by decide +kernel
theorem dX45_tablesCall_137 : decode cX45_tablesCall 137 = .ok (.laload, 1) := by decide +kernel
theorem dX45_tablesCall_138 : decode cX45_tablesCall 138 = .ok (.l2i, 1) := by decide +kernel
theorem dX45_tablesCall_139 : decode cX45_tablesCall 139 = .ok (.invokevirtual 944, 3) := by decide +kernel
theorem dX45_tablesCall_142 : decode cX45_tablesCall 142 = .ok (.i2l, 1) := by decide +kernel
theorem dX45_tablesCall_143 : decode cX45_tablesCall 143 = .ok (.lreturn, 1) := by decide +kernel
theorem dX45_tablesCall_144 : decode cX45_tablesCall 144 = .ok (.aload_n 0, 1) := by decide +kernel
theorem dX45_tablesCall_145 : decode cX45_tablesCall 145 = .ok (.getfield 391, 3) := by decide +kernel
theorem dX45_tablesCall_148 : decode cX45_tablesCall 148 = .ok (.aload_n 0, 1) := by decide +kernel
theorem dX45_tablesCall_149 : decode cX45_tablesCall 149 = .ok (.getfield 424, 3) := by decide +kernel
theorem dX45_tablesCall_152 : decode cX45_tablesCall 152 = .ok (.iconst 0, 1) := by decide +kernel
theorem dX45_tablesCall_153 : decode cX45_tablesCall 153 = .ok (.laload, 1) := by decide +kernel
theorem dX45_tablesCall_154 : decode cX45_tablesCall 154 = .ok (.l2i, 1) := by decide +kernel
theorem dX45_tablesCall_155 : decode cX45_tablesCall 155 = .ok (.aload_n 0, 1) := by decide +kernel
theorem dX45_tablesCall_156 : decode cX45_tablesCall 156 = .ok (.getfield 424, 3) := by decide +kernel
theorem dX45_tablesCall_159 : decode cX45_tablesCall 159 = .ok (.iconst 1, 1) := by decide +kernel
theorem dX45_tablesCall_160 : decode cX45_tablesCall 160 = .ok (.laload, 1) := by decide +kernel
theorem dX45_tablesCall_161 : decode cX45_tablesCall 161 = .ok (.l2i, 1) := by decide +kernel
theorem dX45_tablesCall_162 : decode cX45_tablesCall 162 = .ok (.invokevirtual 946, 3) := by decide +kernel
theorem dX45_tablesCall_165 : decode cX45_tablesCall 165 = .ok (.i2l, 1) := by decide +kernel
theorem dX45_tablesCall_166 : decode cX45_tablesCall 166 = .ok (.lreturn, 1) := by decide +kernel
theorem dX45_tablesCall_167 : decode cX45_tablesCall 167 = .ok (.aload_n 0, 1) := by decide +kernel
theorem dX45_tablesCall_168 : decode cX45_tablesCall 168 = .ok (.getfield 391, 3) := by decide +kernel
theorem dX45_tablesCall_171 : decode cX45_tablesCall 171 = .ok (.aload_n 0, 1) := by decide +kernel
theorem dX45_tablesCall_172 : decode cX45_tablesCall 172 = .ok (.getfield 424, 3) := by decide +kernel
theorem dX45_tablesCall_175 : decode cX45_tablesCall 175 = .ok (.iconst 0, 1) := by decide +kernel
theorem dX45_tablesCall_176 : decode cX45_tablesCall 176 = .ok (.laload, 1) := by decide +kernel
theorem dX45_tablesCall_177 : decode cX45_tablesCall 177 = .ok (.l2i, 1) := by decide +kernel
theorem dX45_tablesCall_178 : decode cX45_tablesCall 178 = .ok (.aload_n 0, 1) := by decide +kernel
theorem dX45_tablesCall_179 : decode cX45_tablesCall 179 = .ok (.getfield 424, 3) := by decide +kernel
theorem dX45_tablesCall_182 : decode cX45_tablesCall 182 = .ok (.iconst 1, 1) := by decide +kernel
theorem dX45_tablesCall_183 : decode cX45_tablesCall 183 = .ok (.laload, 1) := by decide +kernel
theorem dX45_tablesCall_184 : decode cX45_tablesCall 184 = .ok (.l2i, 1) := by decide +kernel
theorem dX45_tablesCall_185 : decode cX45_tablesCall 185 = .ok (.aload_n 0, 1) := by decide +kernel
theorem dX45_tablesCall_186 : decode cX45_tablesCall 186 = .ok (.getfield 424, 3) := by decide +kernel
theorem dX45_tablesCall_189 : decode cX45_tablesCall 189 = .ok (.iconst 2, 1) := by decide +kernel
theorem dX45_tablesCall_190 : decode cX45_tablesCall 190 = .ok (.laload, 1) := by decide +kernel
theorem dX45_tablesCall_191 : decode cX45_tablesCall 191 = .ok (.l2i, 1) := by decide +kernel
theorem dX45_tablesCall_192 : decode cX45_tablesCall 192 = .ok (.aload_n 0, 1) := by decide +kernel
theorem dX45_tablesCall_193 : decode cX45_tablesCall 193 = .ok (.getfield 424, 3) := by decide +kernel
theorem dX45_tablesCall_196 : decode cX45_tablesCall 196 = .ok (.iconst 3, 1) := by decide +kernel
theorem dX45_tablesCall_197 : decode cX45_tablesCall 197 = .ok (.laload, 1) := by decide +kernel
theorem dX45_tablesCall_198 : decode cX45_tablesCall 198 = .ok (.l2i, 1) := by decide +kernel
theorem dX45_tablesCall_199 : decode cX45_tablesCall 199 = .ok (.aload_n 0, 1) := by decide +kernel
theorem dX45_tablesCall_200 : decode cX45_tablesCall 200 = .ok (.getfield 424, 3) := by decide +kernel
theorem dX45_tablesCall_203 : decode cX45_tablesCall 203 = .ok (.iconst 4, 1) := by decide +kernel
theorem dX45_tablesCall_204 : decode cX45_tablesCall 204 = .ok (.laload, 1) := by decide +kernel
theorem dX45_tablesCall_205 : decode cX45_tablesCall 205 = .ok (.l2i, 1) := by decide +kernel
theorem dX45_tablesCall_206 : decode cX45_tablesCall 206 = .ok (.aload_n 0, 1) := by decide +kernel
theorem dX45_tablesCall_207 : decode cX45_tablesCall 207 = .ok (.getfield 424, 3) := by decide +kernel
theorem dX45_tablesCall_210 : decode cX45_tablesCall 210 = .ok (.iconst 5, 1) := by decide +kernel
theorem dX45_tablesCall_211 : decode cX45_tablesCall 211 = .ok (.laload, 1) := by decide +kernel
theorem dX45_tablesCall_212 : decode cX45_tablesCall 212 = .ok (.l2i, 1) := by decide +kernel
theorem dX45_tablesCall_213 : decode cX45_tablesCall 213 = .ok (.invokevirtual 948, 3) := by decide +kernel
theorem dX45_tablesCall_216 : decode cX45_tablesCall 216 = .ok (.i2l, 1) := by decide +kernel
theorem dX45_tablesCall_217 : decode cX45_tablesCall 217 = .ok (.lreturn, 1) := by decide +kernel
theorem dX45_tablesCall_218 : decode cX45_tablesCall 218 = .ok (.aload_n 0, 1) := by decide +kernel
theorem dX45_tablesCall_219 : decode cX45_tablesCall 219 = .ok (.getfield 391, 3) := by decide +kernel
theorem dX45_tablesCall_222 : decode cX45_tablesCall 222 = .ok (.invokevirtual 951, 3) := by decide +kernel
theorem dX45_tablesCall_225 : decode cX45_tablesCall 225 = .ok (.i2l, 1) := by decide +kernel
theorem dX45_tablesCall_226 : decode cX45_tablesCall 226 = .ok (.lreturn, 1) := by decide +kernel
theorem dX45_tablesCall_227 : decode cX45_tablesCall 227 = .ok (.aload_n 0, 1) := by decide +kernel
theorem dX45_tablesCall_228 : decode cX45_tablesCall 228 = .ok (.getfield 391, 3) := by decide +kernel
theorem dX45_tablesCall_231 : decode cX45_tablesCall 231 = .ok (.aload_n 0, 1) := by decide +kernel
theorem dX45_tablesCall_232 : decode cX45_tablesCall 232 = .ok (.getfield 424, 3) := by decide +kernel
theorem dX45_tablesCall_235 : decode cX45_tablesCall 235 = .ok (.iconst 0, 1) := by decide +kernel
theorem dX45_tablesCall_236 : decode cX45_tablesCall 236 = .ok (.laload, 1) := by decide +kernel
theorem dX45_tablesCall_237 : decode cX45_tablesCall 237 = .ok (.l2i, 1) := by decide +kernel
theorem dX45_tablesCall_238 : decode cX45_tablesCall 238 = .ok (.aload_n 0, 1) := by decide +kernel
theorem dX45_tablesCall_239 : decode cX45_tablesCall 239 = .ok (.getfield 424, 3) := by decide +kernel
theorem dX45_tablesCall_242 : decode cX45_tablesCall 242 = .ok (.iconst 1, 1) := by decide +kernel
theorem dX45_tablesCall_243 : decode cX45_tablesCall 243 = .ok (.laload, 1) := by decide +kernel
theorem dX45_tablesCall_244 : decode cX45_tablesCall 244 = .ok (.l2i, 1) := by decide +kernel
theorem dX45_tablesCall_245 : decode cX45_tablesCall 245 = .ok (.aload_n 0, 1) := by decide +kernel
theorem dX45_tablesCall_246 : decode cX45_tablesCall 246 = .ok (.getfield 424, 3) := by decide +kernel
theorem dX45_tablesCall_249 : decode cX45_tablesCall 249 = .ok (.iconst 2, 1) := by decide +kernel
theorem dX45_tablesCall_250 : decode cX45_tablesCall 250 = .ok (.laload, 1) := by decide +kernel
theorem dX45_tablesCall_251 : decode cX45_tablesCall 251 = .ok (.l2i, 1) := by decide +kernel
theorem dX45_tablesCall_252 : decode cX45_tablesCall 252 = .ok (.invokevirtual 952, 3) := by decide +kernel
theorem dX45_tablesCall_255 : decode cX45_tablesCall 255 = .ok (.i2l, 1) := by decide +kernel
theorem dX45_tablesCall_256 : decode cX45_tablesCall 256 = .ok (.lreturn, 1) := by decide +kernel
theorem dX45_tablesCall_257 : decode cX45_tablesCall 257 = .ok (.aload_n 0, 1) := by decide +kernel
theorem dX45_tablesCall_258 : decode cX45_tablesCall 258 = .ok (.getfield 391, 3) := by decide +kernel
theorem dX45_tablesCall_261 : decode cX45_tablesCall 261 = .ok (.aload_n 0, 1) := by decide +kernel
theorem dX45_tablesCall_262 : decode cX45_tablesCall 262 = .ok (.getfield 424, 3) := by decide +kernel
theorem dX45_tablesCall_265 : decode cX45_tablesCall 265 = .ok (.iconst 0, 1) := by decide +kernel
theorem dX45_tablesCall_266 : decode cX45_tablesCall 266 = .ok (.laload, 1) := by decide +kernel
theorem dX45_tablesCall_267 : decode cX45_tablesCall 267 = .ok (.l2i, 1) := by decide +kernel
theorem dX45_tablesCall_268 : decode cX45_tablesCall 268 = .ok (.aload_n 0, 1) := by decide +kernel
theorem dX45_tablesCall_269 : decode cX45_tablesCall 269 = .ok (.getfield 424, 3) := by decide +kernel
theorem dX45_tablesCall_272 : decode cX45_tablesCall 272 = .ok (.iconst 1, 1) := by decide +kernel
theorem dX45_tablesCall_273 : decode cX45_tablesCall 273 = .ok (.laload, 1) := by decide +kernel
theorem dX45_tablesCall_274 : decode cX45_tablesCall 274 = .ok (.l2i, 1) := by decide +kernel
theorem dX45_tablesCall_275 : decode cX45_tablesCall 275 = .ok (.aload_n 0, 1) := by decide +kernel
theorem dX45_tablesCall_276 : decode cX45_tablesCall 276 = .ok (.getfield 424, 3) := by decide +kernel
theorem dX45_tablesCall_279 : decode cX45_tablesCall 279 = .ok (.iconst 2, 1) := by decide +kernel
theorem dX45_tablesCall_280 : decode cX45_tablesCall 280 = .ok (.laload, 1) := by decide +kernel
theorem dX45_tablesCall_281 : decode cX45_tablesCall 281 = .ok (.l2i, 1) := by decide +kernel
theorem dX45_tablesCall_282 : decode cX45_tablesCall 282 = .ok (.invokevirtual 955, 3) := by decide +kernel
theorem dX45_tablesCall_285 : decode cX45_tablesCall 285 = .ok (.i2l, 1) := by decide +kernel
theorem dX45_tablesCall_286 : decode cX45_tablesCall 286 = .ok (.lreturn, 1) := by decide +kernel
theorem dX45_tablesCall_287 : decode cX45_tablesCall 287 = .ok (.aload_n 0, 1) := by decide +kernel
theorem dX45_tablesCall_288 : decode cX45_tablesCall 288 = .ok (.getfield 391, 3) := by decide +kernel
theorem dX45_tablesCall_291 : decode cX45_tablesCall 291 = .ok (.invokevirtual 958, 3) := by decide +kernel
theorem dX45_tablesCall_294 : decode cX45_tablesCall 294 = .ok (.i2l, 1) := by decide +kernel
theorem dX45_tablesCall_295 : decode cX45_tablesCall 295 = .ok (.lreturn, 1) := by decide +kernel
theorem dX45_tablesCall_296 : decode cX45_tablesCall 296 = .ok (.aload_n 0, 1) := by decide +kernel
theorem dX45_tablesCall_297 : decode cX45_tablesCall 297 = .ok (.getfield 391, 3) := by decide +kernel
theorem dX45_tablesCall_300 : decode cX45_tablesCall 300 = .ok (.invokevirtual 961, 3) := by decide +kernel
theorem dX45_tablesCall_303 : decode cX45_tablesCall 303 = .ok (.i2l, 1) := by decide +kernel
theorem dX45_tablesCall_304 : decode cX45_tablesCall 304 = .ok (.lreturn, 1) := by decide +kernel
theorem dX45_tablesCall_305 : decode cX45_tablesCall 305 = .ok (.aload_n 0, 1) := by decide +kernel
theorem dX45_tablesCall_306 : decode cX45_tablesCall 306 = .ok (.getfield 391, 3) := by decide +kernel
theorem dX45_tablesCall_309 : decode cX45_tablesCall 309 = .ok (.aload_n 0, 1) := by decide +kernel
theorem dX45_tablesCall_310 : decode cX45_tablesCall 310 = .ok (.getfield 424, 3) := by decide +kernel
theorem dX45_tablesCall_313 : decode cX45_tablesCall 313 = .ok (.iconst 0, 1) := by decide +kernel
theorem dX45_tablesCall_314 : decode cX45_tablesCall 314 = .ok (.laload, 1) := by decide +kernel
theorem dX45_tablesCall_315 : decode cX45_tablesCall 315 = .ok (.l2i, 1) := by decide +kernel
theorem dX45_tablesCall_316 : decode cX45_tablesCall 316 = .ok (.aload_n 0, 1) := by decide +kernel
theorem dX45_tablesCall_317 : decode cX45_tablesCall 317 = .ok (.getfield 424, 3) := by decide +kernel
theorem dX45_tablesCall_320 : decode cX45_tablesCall 320 = .ok (.iconst 1, 1) := by decide +kernel
theorem dX45_tablesCall_321 : decode cX45_tablesCall 321 = .ok (.laload, 1) := by decide +kernel
theorem dX45_tablesCall_322 : decode cX45_tablesCall 322 = .ok (.l2i, 1) := by decide +kernel
theorem dX45_tablesCall_323 : decode cX45_tablesCall 323 = .ok (.invokevirtual 964, 3) := by decide +kernel
theorem dX45_tablesCall_326 : decode cX45_tablesCall 326 = .ok (.i2l, 1) := by decide +kernel
theorem dX45_tablesCall_327 : decode cX45_tablesCall 327 = .ok (.lreturn, 1) := by decide +kernel
theorem dX45_tablesCall_328 : decode cX45_tablesCall 328 = .ok (.aload_n 0, 1) := by decide +kernel
theorem dX45_tablesCall_329 : decode cX45_tablesCall 329 = .ok (.getfield 391, 3) := by decide +kernel
theorem dX45_tablesCall_332 : decode cX45_tablesCall 332 = .ok (.aload_n 0, 1) := by decide +kernel
theorem dX45_tablesCall_333 : decode cX45_tablesCall 333 = .ok (.getfield 424, 3) := by decide +kernel
theorem dX45_tablesCall_336 : decode cX45_tablesCall 336 = .ok (.iconst 0, 1) := by decide +kernel
theorem dX45_tablesCall_337 : decode cX45_tablesCall 337 = .ok (.laload, 1) := by decide +kernel
theorem dX45_tablesCall_338 : decode cX45_tablesCall 338 = .ok (.l2i, 1) := by decide +kernel
theorem dX45_tablesCall_339 : decode cX45_tablesCall 339 = .ok (.invokevirtual 967, 3) := by decide +kernel
theorem dX45_tablesCall_342 : decode cX45_tablesCall 342 = .ok (.i2l, 1) := by decide +kernel
theorem dX45_tablesCall_343 : decode cX45_tablesCall 343 = .ok (.lreturn, 1) := by decide +kernel
theorem dX45_tablesCall_344 : decode cX45_tablesCall 344 = .ok (.aload_n 0, 1) := by decide +kernel
theorem dX45_tablesCall_345 : decode cX45_tablesCall 345 = .ok (.getfield 391, 3) := by decide +kernel
theorem dX45_tablesCall_348 : decode cX45_tablesCall 348 = .ok (.invokevirtual 627, 3) := by decide +kernel
theorem dX45_tablesCall_351 : decode cX45_tablesCall 351 = .ok (.i2l, 1) := by decide +kernel
theorem dX45_tablesCall_352 : decode cX45_tablesCall 352 = .ok (.lreturn, 1) := by decide +kernel
theorem dX45_tablesCall_353 : decode cX45_tablesCall 353 = .ok (.aload_n 0, 1) := by decide +kernel
theorem dX45_tablesCall_354 : decode cX45_tablesCall 354 = .ok (.getfield 391, 3) := by decide +kernel
theorem dX45_tablesCall_357 : decode cX45_tablesCall 357 = .ok (.aload_n 0, 1) := by decide +kernel
theorem dX45_tablesCall_358 : decode cX45_tablesCall 358 = .ok (.getfield 424, 3) := by decide +kernel
theorem dX45_tablesCall_361 : decode cX45_tablesCall 361 = .ok (.iconst 0, 1) := by decide +kernel
theorem dX45_tablesCall_362 : decode cX45_tablesCall 362 = .ok (.laload, 1) := by decide +kernel
theorem dX45_tablesCall_363 : decode cX45_tablesCall 363 = .ok (.l2i, 1) := by decide +kernel
theorem dX45_tablesCall_364 : decode cX45_tablesCall 364 = .ok (.aload_n 0, 1) := by decide +kernel
theorem dX45_tablesCall_365 : decode cX45_tablesCall 365 = .ok (.getfield 424, 3) := by decide +kernel
theorem dX45_tablesCall_368 : decode cX45_tablesCall 368 = .ok (.iconst 1, 1) := by decide +kernel
theorem dX45_tablesCall_369 : decode cX45_tablesCall 369 = .ok (.laload, 1) := by decide +kernel
theorem dX45_tablesCall_370 : decode cX45_tablesCall 370 = .ok (.l2i, 1) := by decide +kernel
theorem dX45_tablesCall_371 : decode cX45_tablesCall 371 = .ok (.invokevirtual 628, 3) := by decide +kernel
theorem dX45_tablesCall_374 : decode cX45_tablesCall 374 = .ok (.i2l, 1) := by decide +kernel
theorem dX45_tablesCall_375 : decode cX45_tablesCall 375 = .ok (.lreturn, 1) := by decide +kernel
theorem dX45_tablesCall_376 : decode cX45_tablesCall 376 = .ok (.aload_n 0, 1) := by decide +kernel
theorem dX45_tablesCall_377 : decode cX45_tablesCall 377 = .ok (.getfield 391, 3) := by decide +kernel
theorem dX45_tablesCall_380 : decode cX45_tablesCall 380 = .ok (.aload_n 0, 1) := by decide +kernel
theorem dX45_tablesCall_381 : decode cX45_tablesCall 381 = .ok (.getfield 424, 3) := by decide +kernel
theorem dX45_tablesCall_384 : decode cX45_tablesCall 384 = .ok (.iconst 0, 1) := by decide +kernel
theorem dX45_tablesCall_385 : decode cX45_tablesCall 385 = .ok (.laload, 1) := by decide +kernel
theorem dX45_tablesCall_386 : decode cX45_tablesCall 386 = .ok (.l2i, 1) := by decide +kernel
theorem dX45_tablesCall_387 : decode cX45_tablesCall 387 = .ok (.aload_n 0, 1) := by decide +kernel
theorem dX45_tablesCall_388 : decode cX45_tablesCall 388 = .ok (.getfield 424, 3) := by decide +kernel
theorem dX45_tablesCall_391 : decode cX45_tablesCall 391 = .ok (.iconst 1, 1) := by decide +kernel
theorem dX45_tablesCall_392 : decode cX45_tablesCall 392 = .ok (.laload, 1) := by decide +kernel
theorem dX45_tablesCall_393 : decode cX45_tablesCall 393 = .ok (.l2i, 1) := by decide +kernel
theorem dX45_tablesCall_394 : decode cX45_tablesCall 394 = .ok (.invokevirtual 970, 3) := by decide +kernel
theorem dX45_tablesCall_397 : decode cX45_tablesCall 397 = .ok (.i2l, 1) := by decide +kernel
theorem dX45_tablesCall_398 : decode cX45_tablesCall 398 = .ok (.lreturn, 1) := by decide +kernel
abbrev cX45_rulesCall : ByteArray := prog_78_method_43_code
def yX45_rulesCall : MethodName := ⟨RX45, "rulesCall", "(I)J"⟩
theorem dX45_rulesCall_0 : decode cX45_rulesCall 0 = .ok (.iload_n 1, 1) := by decide +kernel
theorem dX45_rulesCall_1 : decode cX45_rulesCall 1 = .ok (.tableswitch 444 0 13 #[71, 101, 131, 161, 214, 251, 281, 297, 313, 322, 338, 368, 398, 428], 71) := by decide +kernel
theorem dX45_rulesCall_72 : decode cX45_rulesCall 72 = .ok (.aload_n 0, 1) := by decide +kernel
theorem dX45_rulesCall_73 : decode cX45_rulesCall 73 = .ok (.getfield 397, 3) := by decide +kernel
theorem dX45_rulesCall_76 : decode cX45_rulesCall 76 = .ok (.aload_n 0, 1) := by decide +kernel
theorem dX45_rulesCall_77 : decode cX45_rulesCall 77 = .ok (.getfield 424, 3) := by decide +kernel
theorem dX45_rulesCall_80 : decode cX45_rulesCall 80 = .ok (.iconst 0, 1) := by decide +kernel
theorem dX45_rulesCall_81 : decode cX45_rulesCall 81 = .ok (.laload, 1) := by decide +kernel
theorem dX45_rulesCall_82 : decode cX45_rulesCall 82 = .ok (.l2i, 1) := by decide +kernel
theorem dX45_rulesCall_83 : decode cX45_rulesCall 83 = .ok (.aload_n 0, 1) := by decide +kernel
theorem dX45_rulesCall_84 : decode cX45_rulesCall 84 = .ok (.getfield 424, 3) := by decide +kernel
theorem dX45_rulesCall_87 : decode cX45_rulesCall 87 = .ok (.iconst 1, 1) := by decide +kernel
theorem dX45_rulesCall_88 : decode cX45_rulesCall 88 = .ok (.laload, 1) := by decide +kernel
theorem dX45_rulesCall_89 : decode cX45_rulesCall 89 = .ok (.l2i, 1) := by decide +kernel
theorem dX45_rulesCall_90 : decode cX45_rulesCall 90 = .ok (.aload_n 0, 1) := by decide +kernel
theorem dX45_rulesCall_91 : decode cX45_rulesCall 91 = .ok (.getfield 424, 3) := by decide +kernel
theorem dX45_rulesCall_94 : decode cX45_rulesCall 94 = .ok (.iconst 2, 1) := by decide +kernel
theorem dX45_rulesCall_95 : decode cX45_rulesCall 95 = .ok (.laload, 1) := by decide +kernel
theorem dX45_rulesCall_96 : decode cX45_rulesCall 96 = .ok (.l2i, 1) := by decide +kernel
theorem dX45_rulesCall_97 : decode cX45_rulesCall 97 = .ok (.invokevirtual 539, 3) := by decide +kernel
theorem dX45_rulesCall_100 : decode cX45_rulesCall 100 = .ok (.i2l, 1) := by decide +kernel
theorem dX45_rulesCall_101 : decode cX45_rulesCall 101 = .ok (.lreturn, 1) := by decide +kernel
theorem dX45_rulesCall_102 : decode cX45_rulesCall 102 = .ok (.aload_n 0, 1) := by decide +kernel
theorem dX45_rulesCall_103 : decode cX45_rulesCall 103 = .ok (.getfield 397, 3) := by decide +kernel
theorem dX45_rulesCall_106 : decode cX45_rulesCall 106 = .ok (.aload_n 0, 1) := by decide +kernel
theorem dX45_rulesCall_107 : decode cX45_rulesCall 107 = .ok (.getfield 424, 3) := by decide +kernel
theorem dX45_rulesCall_110 : decode cX45_rulesCall 110 = .ok (.iconst 0, 1) := by decide +kernel
theorem dX45_rulesCall_111 : decode cX45_rulesCall 111 = .ok (.laload, 1) := by decide +kernel
theorem dX45_rulesCall_112 : decode cX45_rulesCall 112 = .ok (.l2i, 1) := by decide +kernel
theorem dX45_rulesCall_113 : decode cX45_rulesCall 113 = .ok (.aload_n 0, 1) := by decide +kernel
theorem dX45_rulesCall_114 : decode cX45_rulesCall 114 = .ok (.getfield 424, 3) := by decide +kernel
theorem dX45_rulesCall_117 : decode cX45_rulesCall 117 = .ok (.iconst 1, 1) := by decide +kernel
theorem dX45_rulesCall_118 : decode cX45_rulesCall 118 = .ok (.laload, 1) := by decide +kernel
theorem dX45_rulesCall_119 : decode cX45_rulesCall 119 = .ok (.l2i, 1) := by decide +kernel
theorem dX45_rulesCall_120 : decode cX45_rulesCall 120 = .ok (.aload_n 0, 1) := by decide +kernel
theorem dX45_rulesCall_121 : decode cX45_rulesCall 121 = .ok (.getfield 424, 3) := by decide +kernel
theorem dX45_rulesCall_124 : decode cX45_rulesCall 124 = .ok (.iconst 2, 1) := by decide +kernel
theorem dX45_rulesCall_125 : decode cX45_rulesCall 125 = .ok (.laload, 1) := by decide +kernel
theorem dX45_rulesCall_126 : decode cX45_rulesCall 126 = .ok (.l2i, 1) := by decide +kernel
theorem dX45_rulesCall_127 : decode cX45_rulesCall 127 = .ok (.invokevirtual 542, 3) := by decide +kernel
theorem dX45_rulesCall_130 : decode cX45_rulesCall 130 = .ok (.i2l, 1) := by decide +kernel
theorem dX45_rulesCall_131 : decode cX45_rulesCall 131 = .ok (.lreturn, 1) := by decide +kernel
theorem dX45_rulesCall_132 : decode cX45_rulesCall 132 = .ok (.aload_n 0, 1) := by decide +kernel
theorem dX45_rulesCall_133 : decode cX45_rulesCall 133 = .ok (.getfield 397, 3) := by decide +kernel
theorem dX45_rulesCall_136 : decode cX45_rulesCall 136 = .ok (.aload_n 0, 1) := by decide +kernel
theorem dX45_rulesCall_137 : decode cX45_rulesCall 137 = .ok (.getfield 424, 3) := by decide +kernel
theorem dX45_rulesCall_140 : decode cX45_rulesCall 140 = .ok (.iconst 0, 1) := by decide +kernel
theorem dX45_rulesCall_141 : decode cX45_rulesCall 141 = .ok (.laload, 1) := by decide +kernel
theorem dX45_rulesCall_142 : decode cX45_rulesCall 142 = .ok (.l2i, 1) := by decide +kernel
theorem dX45_rulesCall_143 : decode cX45_rulesCall 143 = .ok (.aload_n 0, 1) := by decide +kernel
theorem dX45_rulesCall_144 : decode cX45_rulesCall 144 = .ok (.getfield 424, 3) := by decide +kernel
theorem dX45_rulesCall_147 : decode cX45_rulesCall 147 = .ok (.iconst 1, 1) := by decide +kernel
theorem dX45_rulesCall_148 : decode cX45_rulesCall 148 = .ok (.laload, 1) := by decide +kernel
theorem dX45_rulesCall_149 : decode cX45_rulesCall 149 = .ok (.l2i, 1) := by decide +kernel
theorem dX45_rulesCall_150 : decode cX45_rulesCall 150 = .ok (.aload_n 0, 1) := by decide +kernel
theorem dX45_rulesCall_151 : decode cX45_rulesCall 151 = .ok (.getfield 424, 3) := by decide +kernel
theorem dX45_rulesCall_154 : decode cX45_rulesCall 154 = .ok (.iconst 2, 1) := by decide +kernel
theorem dX45_rulesCall_155 : decode cX45_rulesCall 155 = .ok (.laload, 1) := by decide +kernel
theorem dX45_rulesCall_156 : decode cX45_rulesCall 156 = .ok (.l2i, 1) := by decide +kernel
theorem dX45_rulesCall_157 : decode cX45_rulesCall 157 = .ok (.invokevirtual 973, 3) := by decide +kernel
theorem dX45_rulesCall_160 : decode cX45_rulesCall 160 = .ok (.i2l, 1) := by decide +kernel
theorem dX45_rulesCall_161 : decode cX45_rulesCall 161 = .ok (.lreturn, 1) := by decide +kernel
theorem dX45_rulesCall_162 : decode cX45_rulesCall 162 = .ok (.aload_n 0, 1) := by decide +kernel
theorem dX45_rulesCall_163 : decode cX45_rulesCall 163 = .ok (.getfield 397, 3) := by decide +kernel
theorem dX45_rulesCall_166 : decode cX45_rulesCall 166 = .ok (.aload_n 0, 1) := by decide +kernel
theorem dX45_rulesCall_167 : decode cX45_rulesCall 167 = .ok (.getfield 424, 3) := by decide +kernel
theorem dX45_rulesCall_170 : decode cX45_rulesCall 170 = .ok (.iconst 0, 1) := by decide +kernel
theorem dX45_rulesCall_171 : decode cX45_rulesCall 171 = .ok (.laload, 1) := by decide +kernel
theorem dX45_rulesCall_172 : decode cX45_rulesCall 172 = .ok (.l2i, 1) := by decide +kernel
theorem dX45_rulesCall_173 : decode cX45_rulesCall 173 = .ok (.aload_n 0, 1) := by decide +kernel
theorem dX45_rulesCall_174 : decode cX45_rulesCall 174 = .ok (.getfield 424, 3) := by decide +kernel
theorem dX45_rulesCall_177 : decode cX45_rulesCall 177 = .ok (.iconst 1, 1) := by decide +kernel
theorem dX45_rulesCall_178 : decode cX45_rulesCall 178 = .ok (.laload, 1) := by decide +kernel
theorem dX45_rulesCall_179 : decode cX45_rulesCall 179 = .ok (.l2i, 1) := by decide +kernel
theorem dX45_rulesCall_180 : decode cX45_rulesCall 180 = .ok (.aload_n 0, 1) := by decide +kernel
theorem dX45_rulesCall_181 : decode cX45_rulesCall 181 = .ok (.getfield 424, 3) := by decide +kernel
theorem dX45_rulesCall_184 : decode cX45_rulesCall 184 = .ok (.iconst 2, 1) := by decide +kernel
theorem dX45_rulesCall_185 : decode cX45_rulesCall 185 = .ok (.laload, 1) := by decide +kernel
theorem dX45_rulesCall_186 : decode cX45_rulesCall 186 = .ok (.l2i, 1) := by decide +kernel
theorem dX45_rulesCall_187 : decode cX45_rulesCall 187 = .ok (.aload_n 0, 1) := by decide +kernel
theorem dX45_rulesCall_188 : decode cX45_rulesCall 188 = .ok (.getfield 424, 3) := by decide +kernel
theorem dX45_rulesCall_191 : decode cX45_rulesCall 191 = .ok (.iconst 3, 1) := by decide +kernel
theorem dX45_rulesCall_192 : decode cX45_rulesCall 192 = .ok (.laload, 1) := by decide +kernel
theorem dX45_rulesCall_193 : decode cX45_rulesCall 193 = .ok (.l2i, 1) := by decide +kernel
theorem dX45_rulesCall_194 : decode cX45_rulesCall 194 = .ok (.aload_n 0, 1) := by decide +kernel
theorem dX45_rulesCall_195 : decode cX45_rulesCall 195 = .ok (.getfield 424, 3) := by decide +kernel
theorem dX45_rulesCall_198 : decode cX45_rulesCall 198 = .ok (.iconst 4, 1) := by decide +kernel
theorem dX45_rulesCall_199 : decode cX45_rulesCall 199 = .ok (.laload, 1) := by decide +kernel
theorem dX45_rulesCall_200 : decode cX45_rulesCall 200 = .ok (.lconst 1, 1) := by decide +kernel
theorem dX45_rulesCall_201 : decode cX45_rulesCall 201 = .ok (.lcmp, 1) := by decide +kernel
theorem dX45_rulesCall_202 : decode cX45_rulesCall 202 = .ok (.ifCond .ne 7, 3) := by decide +kernel
theorem dX45_rulesCall_205 : decode cX45_rulesCall 205 = .ok (.iconst 1, 1) := by decide +kernel
theorem dX45_rulesCall_206 : decode cX45_rulesCall 206 = .ok (.goto 4, 3) := by decide +kernel
theorem dX45_rulesCall_209 : decode cX45_rulesCall 209 = .ok (.iconst 0, 1) := by decide +kernel
theorem dX45_rulesCall_210 : decode cX45_rulesCall 210 = .ok (.invokevirtual 975, 3) := by decide +kernel
theorem dX45_rulesCall_213 : decode cX45_rulesCall 213 = .ok (.i2l, 1) := by decide +kernel
theorem dX45_rulesCall_214 : decode cX45_rulesCall 214 = .ok (.lreturn, 1) := by decide +kernel
theorem dX45_rulesCall_215 : decode cX45_rulesCall 215 = .ok (.aload_n 0, 1) := by decide +kernel
theorem dX45_rulesCall_216 : decode cX45_rulesCall 216 = .ok (.getfield 397, 3) := by decide +kernel
theorem dX45_rulesCall_219 : decode cX45_rulesCall 219 = .ok (.aload_n 0, 1) := by decide +kernel
theorem dX45_rulesCall_220 : decode cX45_rulesCall 220 = .ok (.getfield 424, 3) := by decide +kernel
theorem dX45_rulesCall_223 : decode cX45_rulesCall 223 = .ok (.iconst 0, 1) := by decide +kernel
theorem dX45_rulesCall_224 : decode cX45_rulesCall 224 = .ok (.laload, 1) := by decide +kernel
theorem dX45_rulesCall_225 : decode cX45_rulesCall 225 = .ok (.l2i, 1) := by decide +kernel
theorem dX45_rulesCall_226 : decode cX45_rulesCall 226 = .ok (.aload_n 0, 1) := by decide +kernel
theorem dX45_rulesCall_227 : decode cX45_rulesCall 227 = .ok (.getfield 424, 3) := by decide +kernel
theorem dX45_rulesCall_230 : decode cX45_rulesCall 230 = .ok (.iconst 1, 1) := by decide +kernel
theorem dX45_rulesCall_231 : decode cX45_rulesCall 231 = .ok (.laload, 1) := by decide +kernel
theorem dX45_rulesCall_232 : decode cX45_rulesCall 232 = .ok (.l2i, 1) := by decide +kernel
theorem dX45_rulesCall_233 : decode cX45_rulesCall 233 = .ok (.aload_n 0, 1) := by decide +kernel
theorem dX45_rulesCall_234 : decode cX45_rulesCall 234 = .ok (.getfield 424, 3) := by decide +kernel
theorem dX45_rulesCall_237 : decode cX45_rulesCall 237 = .ok (.iconst 2, 1) := by decide +kernel
theorem dX45_rulesCall_238 : decode cX45_rulesCall 238 = .ok (.laload, 1) := by decide +kernel
theorem dX45_rulesCall_239 : decode cX45_rulesCall 239 = .ok (.l2i, 1) := by decide +kernel
theorem dX45_rulesCall_240 : decode cX45_rulesCall 240 = .ok (.aload_n 0, 1) := by decide +kernel
theorem dX45_rulesCall_241 : decode cX45_rulesCall 241 = .ok (.getfield 424, 3) := by decide +kernel
theorem dX45_rulesCall_244 : decode cX45_rulesCall 244 = .ok (.iconst 3, 1) := by decide +kernel
theorem dX45_rulesCall_245 : decode cX45_rulesCall 245 = .ok (.laload, 1) := by decide +kernel
theorem dX45_rulesCall_246 : decode cX45_rulesCall 246 = .ok (.l2i, 1) := by decide +kernel
theorem dX45_rulesCall_247 : decode cX45_rulesCall 247 = .ok (.invokevirtual 979, 3) := by decide +kernel
theorem dX45_rulesCall_250 : decode cX45_rulesCall 250 = .ok (.i2l, 1) := by decide +kernel
theorem dX45_rulesCall_251 : decode cX45_rulesCall 251 = .ok (.lreturn, 1) := by decide +kernel
theorem dX45_rulesCall_252 : decode cX45_rulesCall 252 = .ok (.aload_n 0, 1) := by decide +kernel
theorem dX45_rulesCall_253 : decode cX45_rulesCall 253 = .ok (.getfield 397, 3) := by decide +kernel
theorem dX45_rulesCall_256 : decode cX45_rulesCall 256 = .ok (.aload_n 0, 1) := by decide +kernel
theorem dX45_rulesCall_257 : decode cX45_rulesCall 257 = .ok (.getfield 424, 3) := by decide +kernel
theorem dX45_rulesCall_260 : decode cX45_rulesCall 260 = .ok (.iconst 0, 1) := by decide +kernel
theorem dX45_rulesCall_261 : decode cX45_rulesCall 261 = .ok (.laload, 1) := by decide +kernel
theorem dX45_rulesCall_262 : decode cX45_rulesCall 262 = .ok (.l2i, 1) := by decide +kernel
theorem dX45_rulesCall_263 : decode cX45_rulesCall 263 = .ok (.aload_n 0, 1) := by decide +kernel
theorem dX45_rulesCall_264 : decode cX45_rulesCall 264 = .ok (.getfield 424, 3) := by decide +kernel
theorem dX45_rulesCall_267 : decode cX45_rulesCall 267 = .ok (.iconst 1, 1) := by decide +kernel
theorem dX45_rulesCall_268 : decode cX45_rulesCall 268 = .ok (.laload, 1) := by decide +kernel
theorem dX45_rulesCall_269 : decode cX45_rulesCall 269 = .ok (.l2i, 1) := by decide +kernel
theorem dX45_rulesCall_270 : decode cX45_rulesCall 270 = .ok (.aload_n 0, 1) := by decide +kernel
theorem dX45_rulesCall_271 : decode cX45_rulesCall 271 = .ok (.getfield 424, 3) := by decide +kernel
theorem dX45_rulesCall_274 : decode cX45_rulesCall 274 = .ok (.iconst 2, 1) := by decide +kernel
theorem dX45_rulesCall_275 : decode cX45_rulesCall 275 = .ok (.laload, 1) := by decide +kernel
theorem dX45_rulesCall_276 : decode cX45_rulesCall 276 = .ok (.l2i, 1) := by decide +kernel
theorem dX45_rulesCall_277 : decode cX45_rulesCall 277 = .ok (.invokevirtual 982, 3) := by decide +kernel
theorem dX45_rulesCall_280 : decode cX45_rulesCall 280 = .ok (.i2l, 1) := by decide +kernel
theorem dX45_rulesCall_281 : decode cX45_rulesCall 281 = .ok (.lreturn, 1) := by decide +kernel
theorem dX45_rulesCall_282 : decode cX45_rulesCall 282 = .ok (.aload_n 0, 1) := by decide +kernel
theorem dX45_rulesCall_283 : decode cX45_rulesCall 283 = .ok (.getfield 397, 3) := by decide +kernel
theorem dX45_rulesCall_286 : decode cX45_rulesCall 286 = .ok (.aload_n 0, 1) := by decide +kernel
theorem dX45_rulesCall_287 : decode cX45_rulesCall 287 = .ok (.getfield 424, 3) := by decide +kernel
theorem dX45_rulesCall_290 : decode cX45_rulesCall 290 = .ok (.iconst 0, 1) := by decide +kernel
theorem dX45_rulesCall_291 : decode cX45_rulesCall 291 = .ok (.laload, 1) := by decide +kernel
theorem dX45_rulesCall_292 : decode cX45_rulesCall 292 = .ok (.l2i, 1) := by decide +kernel
theorem dX45_rulesCall_293 : decode cX45_rulesCall 293 = .ok (.invokevirtual 985, 3) := by decide +kernel
theorem dX45_rulesCall_296 : decode cX45_rulesCall 296 = .ok (.i2l, 1) := by decide +kernel
theorem dX45_rulesCall_297 : decode cX45_rulesCall 297 = .ok (.lreturn, 1) := by decide +kernel
theorem dX45_rulesCall_298 : decode cX45_rulesCall 298 = .ok (.aload_n 0, 1) := by decide +kernel
theorem dX45_rulesCall_299 : decode cX45_rulesCall 299 = .ok (.getfield 397, 3) := by decide +kernel
theorem dX45_rulesCall_302 : decode cX45_rulesCall 302 = .ok (.aload_n 0, 1) := by decide +kernel
theorem dX45_rulesCall_303 : decode cX45_rulesCall 303 = .ok (.getfield 424, 3) := by decide +kernel
theorem dX45_rulesCall_306 : decode cX45_rulesCall 306 = .ok (.iconst 0, 1) := by decide +kernel
theorem dX45_rulesCall_307 : decode cX45_rulesCall 307 = .ok (.laload, 1) := by decide +kernel
theorem dX45_rulesCall_308 : decode cX45_rulesCall 308 = .ok (.l2i, 1) := by decide +kernel
theorem dX45_rulesCall_309 : decode cX45_rulesCall 309 = .ok (.invokevirtual 986, 3) := by decide +kernel
theorem dX45_rulesCall_312 : decode cX45_rulesCall 312 = .ok (.i2l, 1) := by decide +kernel
theorem dX45_rulesCall_313 : decode cX45_rulesCall 313 = .ok (.lreturn, 1) := by decide +kernel
theorem dX45_rulesCall_314 : decode cX45_rulesCall 314 = .ok (.aload_n 0, 1) := by decide +kernel
theorem dX45_rulesCall_315 : decode cX45_rulesCall 315 = .ok (.getfield 397, 3) := by decide +kernel
theorem dX45_rulesCall_318 : decode cX45_rulesCall 318 = .ok (.invokevirtual 989, 3) := by decide +kernel
theorem dX45_rulesCall_321 : decode cX45_rulesCall 321 = .ok (.i2l, 1) := by decide +kernel
theorem dX45_rulesCall_322 : decode cX45_rulesCall 322 = .ok (.lreturn, 1) := by decide +kernel
theorem dX45_rulesCall_323 : decode cX45_rulesCall 323 = .ok (.aload_n 0, 1) := by decide +kernel
theorem dX45_rulesCall_324 : decode cX45_rulesCall 324 = .ok (.getfield 397, 3) := by decide +kernel
theorem dX45_rulesCall_327 : decode cX45_rulesCall 327 = .ok (.aload_n 0, 1) := by decide +kernel
theorem dX45_rulesCall_328 : decode cX45_rulesCall 328 = .ok (.getfield 424, 3) := by decide +kernel
theorem dX45_rulesCall_331 : decode cX45_rulesCall 331 = .ok (.iconst 0, 1) := by decide +kernel
theorem dX45_rulesCall_332 : decode cX45_rulesCall 332 = .ok (.laload, 1) := by decide +kernel
theorem dX45_rulesCall_333 : decode cX45_rulesCall 333 = .ok (.l2i, 1) := by decide +kernel
theorem dX45_rulesCall_334 : decode cX45_rulesCall 334 = .ok (.invokevirtual 990, 3) := by decide +kernel
theorem dX45_rulesCall_337 : decode cX45_rulesCall 337 = .ok (.i2l, 1) := by decide +kernel
theorem dX45_rulesCall_338 : decode cX45_rulesCall 338 = .ok (.lreturn, 1) := by decide +kernel
theorem dX45_rulesCall_339 : decode cX45_rulesCall 339 = .ok (.aload_n 0, 1) := by decide +kernel
theorem dX45_rulesCall_340 : decode cX45_rulesCall 340 = .ok (.getfield 397, 3) := by decide +kernel
theorem dX45_rulesCall_343 : decode cX45_rulesCall 343 = .ok (.aload_n 0, 1) := by decide +kernel
theorem dX45_rulesCall_344 : decode cX45_rulesCall 344 = .ok (.getfield 424, 3) := by decide +kernel
theorem dX45_rulesCall_347 : decode cX45_rulesCall 347 = .ok (.iconst 0, 1) := by decide +kernel
theorem dX45_rulesCall_348 : decode cX45_rulesCall 348 = .ok (.laload, 1) := by decide +kernel
theorem dX45_rulesCall_349 : decode cX45_rulesCall 349 = .ok (.l2i, 1) := by decide +kernel
theorem dX45_rulesCall_350 : decode cX45_rulesCall 350 = .ok (.aload_n 0, 1) := by decide +kernel
theorem dX45_rulesCall_351 : decode cX45_rulesCall 351 = .ok (.getfield 424, 3) := by decide +kernel
theorem dX45_rulesCall_354 : decode cX45_rulesCall 354 = .ok (.iconst 1, 1) := by decide +kernel
theorem dX45_rulesCall_355 : decode cX45_rulesCall 355 = .ok (.laload, 1) := by decide +kernel
theorem dX45_rulesCall_356 : decode cX45_rulesCall 356 = .ok (.l2i, 1) := by decide +kernel
theorem dX45_rulesCall_357 : decode cX45_rulesCall 357 = .ok (.aload_n 0, 1) := by decide +kernel
theorem dX45_rulesCall_358 : decode cX45_rulesCall 358 = .ok (.getfield 424, 3) := by decide +kernel
theorem dX45_rulesCall_361 : decode cX45_rulesCall 361 = .ok (.iconst 2, 1) := by decide +kernel
theorem dX45_rulesCall_362 : decode cX45_rulesCall 362 = .ok (.laload, 1) := by decide +kernel
theorem dX45_rulesCall_363 : decode cX45_rulesCall 363 = .ok (.l2i, 1) := by decide +kernel
theorem dX45_rulesCall_364 : decode cX45_rulesCall 364 = .ok (.invokevirtual 651, 3) := by decide +kernel
theorem dX45_rulesCall_367 : decode cX45_rulesCall 367 = .ok (.i2l, 1) := by decide +kernel
theorem dX45_rulesCall_368 : decode cX45_rulesCall 368 = .ok (.lreturn, 1) := by decide +kernel
theorem dX45_rulesCall_369 : decode cX45_rulesCall 369 = .ok (.aload_n 0, 1) := by decide +kernel
theorem dX45_rulesCall_370 : decode cX45_rulesCall 370 = .ok (.getfield 397, 3) := by decide +kernel
theorem dX45_rulesCall_373 : decode cX45_rulesCall 373 = .ok (.aload_n 0, 1) := by decide +kernel
theorem dX45_rulesCall_374 : decode cX45_rulesCall 374 = .ok (.getfield 424, 3) := by decide +kernel
theorem dX45_rulesCall_377 : decode cX45_rulesCall 377 = .ok (.iconst 0, 1) := by decide +kernel
theorem dX45_rulesCall_378 : decode cX45_rulesCall 378 = .ok (.laload, 1) := by decide +kernel
theorem dX45_rulesCall_379 : decode cX45_rulesCall 379 = .ok (.l2i, 1) := by decide +kernel
theorem dX45_rulesCall_380 : decode cX45_rulesCall 380 = .ok (.aload_n 0, 1) := by decide +kernel
theorem dX45_rulesCall_381 : decode cX45_rulesCall 381 = .ok (.getfield 424, 3) := by decide +kernel
theorem dX45_rulesCall_384 : decode cX45_rulesCall 384 = .ok (.iconst 1, 1) := by decide +kernel
theorem dX45_rulesCall_385 : decode cX45_rulesCall 385 = .ok (.laload, 1) := by decide +kernel
theorem dX45_rulesCall_386 : decode cX45_rulesCall 386 = .ok (.l2i, 1) := by decide +kernel
theorem dX45_rulesCall_387 : decode cX45_rulesCall 387 = .ok (.aload_n 0, 1) := by decide +kernel
theorem dX45_rulesCall_388 : decode cX45_rulesCall 388 = .ok (.getfield 424, 3) := by decide +kernel
theorem dX45_rulesCall_391 : decode cX45_rulesCall 391 = .ok (.iconst 2, 1) := by decide +kernel
theorem dX45_rulesCall_392 : decode cX45_rulesCall 392 = .ok (.laload, 1) := by decide +kernel
theorem dX45_rulesCall_393 : decode cX45_rulesCall 393 = .ok (.l2i, 1) := by decide +kernel
theorem dX45_rulesCall_394 : decode cX45_rulesCall 394 = .ok (.invokevirtual 993, 3) := by decide +kernel
theorem dX45_rulesCall_397 : decode cX45_rulesCall 397 = .ok (.i2l, 1) := by decide +kernel
theorem dX45_rulesCall_398 : decode cX45_rulesCall 398 = .ok (.lreturn, 1) := by decide +kernel
theorem dX45_rulesCall_399 : decode cX45_rulesCall 399 = .ok (.aload_n 0, 1) := by decide +kernel
theorem dX45_rulesCall_400 : decode cX45_rulesCall 400 = .ok (.getfield 397, 3) := by decide +kernel
theorem dX45_rulesCall_403 : decode cX45_rulesCall 403 = .ok (.aload_n 0, 1) := by decide +kernel
theorem dX45_rulesCall_404 : decode cX45_rulesCall 404 = .ok (.getfield 424, 3) := by decide +kernel
theorem dX45_rulesCall_407 : decode cX45_rulesCall 407 = .ok (.iconst 0, 1) := by decide +kernel
theorem dX45_rulesCall_408 : decode cX45_rulesCall 408 = .ok (.laload, 1) := by decide +kernel
theorem dX45_rulesCall_409 : decode cX45_rulesCall 409 = .ok (.l2i, 1) := by decide +kernel
theorem dX45_rulesCall_410 : decode cX45_rulesCall 410 = .ok (.aload_n 0, 1) := by decide +kernel
theorem dX45_rulesCall_411 : decode cX45_rulesCall 411 = .ok (.getfield 424, 3) := by decide +kernel
theorem dX45_rulesCall_414 : decode cX45_rulesCall 414 = .ok (.iconst 1, 1) := by decide +kernel
theorem dX45_rulesCall_415 : decode cX45_rulesCall 415 = .ok (.laload, 1) := by decide +kernel
theorem dX45_rulesCall_416 : decode cX45_rulesCall 416 = .ok (.l2i, 1) := by decide +kernel
theorem dX45_rulesCall_417 : decode cX45_rulesCall 417 = .ok (.aload_n 0, 1) := by decide +kernel
theorem dX45_rulesCall_418 : decode cX45_rulesCall 418 = .ok (.getfield 424, 3) := by decide +kernel
theorem dX45_rulesCall_421 : decode cX45_rulesCall 421 = .ok (.iconst 2, 1) := by decide +kernel
theorem dX45_rulesCall_422 : decode cX45_rulesCall 422 = .ok (.laload, 1) := by decide +kernel
theorem dX45_rulesCall_423 : decode cX45_rulesCall 423 = .ok (.l2i, 1) := by decide +kernel
theorem dX45_rulesCall_424 : decode cX45_rulesCall 424 = .ok (.invokevirtual 996, 3) := by decide +kernel
theorem dX45_rulesCall_427 : decode cX45_rulesCall 427 = .ok (.i2l, 1) := by decide +kernel
theorem dX45_rulesCall_428 : decode cX45_rulesCall 428 = .ok (.lreturn, 1) := by decide +kernel
theorem dX45_rulesCall_429 : decode cX45_rulesCall 429 = .ok (.aload_n 0, 1) := by decide +kernel
theorem dX45_rulesCall_430 : decode cX45_rulesCall 430 = .ok (.getfield 397, 3) := by decide +kernel
theorem dX45_rulesCall_433 : decode cX45_rulesCall 433 = .ok (.aload_n 0, 1) := by decide +kernel
theorem dX45_rulesCall_434 : decode cX45_rulesCall 434 = .ok (.getfield 424, 3) := by decide +kernel
theorem dX45_rulesCall_437 : decode cX45_rulesCall 437 = .ok (.iconst 0, 1) := by decide +kernel
theorem dX45_rulesCall_438 : decode cX45_rulesCall 438 = .ok (.laload, 1) := by decide +kernel
theorem dX45_rulesCall_439 : decode cX45_rulesCall 439 = .ok (.l2i, 1) := by decide +kernel
theorem dX45_rulesCall_440 : decode cX45_rulesCall 440 = .ok (.invokevirtual 999, 3) := by decide +kernel
theorem dX45_rulesCall_443 : decode cX45_rulesCall 443 = .ok (.i2l, 1) := by decide +kernel
theorem dX45_rulesCall_444 : decode cX45_rulesCall 444 = .ok (.lreturn, 1) := by decide +kernel
theorem dX45_rulesCall_445 : decode cX45_rulesCall 445 = .ok (.aload_n 0, 1) := by decide +kernel
theorem dX45_rulesCall_446 : decode cX45_rulesCall 446 = .ok (.getfield 397, 3) := by decide +kernel
theorem dX45_rulesCall_449 : decode cX45_rulesCall 449 = .ok (.invokevirtual 1001, 3) := by decide +kernel
theorem dX45_rulesCall_452 : decode cX45_rulesCall 452 = .ok (.i2l, 1) := by decide +kernel
theorem dX45_rulesCall_453 : decode cX45_rulesCall 453 = .ok (.lreturn, 1) := by decide +kernel
abbrev cX45_rewriteCall : ByteArray := prog_78_method_44_code
def yX45_rewriteCall : MethodName := ⟨RX45, "rewriteCall", "(I)J"⟩
theorem dX45_rewriteCall_0 : decode cX45_rewriteCall 0 = .ok (.iload_n 1, 1) := by decide +kernel
theorem dX45_rewriteCall_1 : decode cX45_rewriteCall 1 = .ok (.tableswitch 387 0 11 #[63, 93, 139, 185, 201, 254, 270, 300, 316, 339, 362, 371], 63) := by decide +kernel
theorem dX45_rewriteCall_64 : decode cX45_rewriteCall 64 = .ok (.aload_n 0, 1) := by decide +kernel
theorem dX45_rewriteCall_65 : decode cX45_rewriteCall 65 = .ok (.getfield 403, 3) := by decide +kernel
theorem dX45_rewriteCall_68 : decode cX45_rewriteCall 68 = .ok (.aload_n 0, 1) := by decide +kernel
theorem dX45_rewriteCall_69 : decode cX45_rewriteCall 69 = .ok (.getfield 424, 3) := by decide +kernel
theorem dX45_rewriteCall_72 : decode cX45_rewriteCall 72 = .ok (.iconst 0, 1) := by decide +kernel
theorem dX45_rewriteCall_73 : decode cX45_rewriteCall 73 = .ok (.laload, 1) := by decide +kernel
theorem dX45_rewriteCall_74 : decode cX45_rewriteCall 74 = .ok (.l2i, 1) := by decide +kernel
theorem dX45_rewriteCall_75 : decode cX45_rewriteCall 75 = .ok (.aload_n 0, 1) := by decide +kernel
theorem dX45_rewriteCall_76 : decode cX45_rewriteCall 76 = .ok (.getfield 424, 3) := by decide +kernel
theorem dX45_rewriteCall_79 : decode cX45_rewriteCall 79 = .ok (.iconst 1, 1) := by decide +kernel
theorem dX45_rewriteCall_80 : decode cX45_rewriteCall 80 = .ok (.laload, 1) := by decide +kernel
theorem dX45_rewriteCall_81 : decode cX45_rewriteCall 81 = .ok (.l2i, 1) := by decide +kernel
theorem dX45_rewriteCall_82 : decode cX45_rewriteCall 82 = .ok (.aload_n 0, 1) := by decide +kernel
theorem dX45_rewriteCall_83 : decode cX45_rewriteCall 83 = .ok (.getfield 424, 3) := by decide +kernel
theorem dX45_rewriteCall_86 : decode cX45_rewriteCall 86 = .ok (.iconst 2, 1) := by decide +kernel
theorem dX45_rewriteCall_87 : decode cX45_rewriteCall 87 = .ok (.laload, 1) := by decide +kernel
theorem dX45_rewriteCall_88 : decode cX45_rewriteCall 88 = .ok (.l2i, 1) := by decide +kernel
theorem dX45_rewriteCall_89 : decode cX45_rewriteCall 89 = .ok (.invokevirtual 608, 3) := by decide +kernel
theorem dX45_rewriteCall_92 : decode cX45_rewriteCall 92 = .ok (.i2l, 1) := by decide +kernel
theorem dX45_rewriteCall_93 : decode cX45_rewriteCall 93 = .ok (.lreturn, 1) := by decide +kernel
theorem dX45_rewriteCall_94 : decode cX45_rewriteCall 94 = .ok (.aload_n 0, 1) := by decide +kernel
theorem dX45_rewriteCall_95 : decode cX45_rewriteCall 95 = .ok (.getfield 403, 3) := by decide +kernel
theorem dX45_rewriteCall_98 : decode cX45_rewriteCall 98 = .ok (.aload_n 0, 1) := by decide +kernel
theorem dX45_rewriteCall_99 : decode cX45_rewriteCall 99 = .ok (.getfield 424, 3) := by decide +kernel
theorem dX45_rewriteCall_102 : decode cX45_rewriteCall 102 = .ok (.iconst 0, 1) := by decide +kernel
theorem dX45_rewriteCall_103 : decode cX45_rewriteCall 103 = .ok (.laload, 1) := by decide +kernel
theorem dX45_rewriteCall_104 : decode cX45_rewriteCall 104 = .ok (.lconst 1, 1) := by decide +kernel
theorem dX45_rewriteCall_105 : decode cX45_rewriteCall 105 = .ok (.lcmp, 1) := by decide +kernel
theorem dX45_rewriteCall_106 : decode cX45_rewriteCall 106 = .ok (.ifCond .ne 7, 3) := by decide +kernel
theorem dX45_rewriteCall_109 : decode cX45_rewriteCall 109 = .ok (.iconst 1, 1) := by decide +kernel
theorem dX45_rewriteCall_110 : decode cX45_rewriteCall 110 = .ok (.goto 4, 3) := by decide +kernel
theorem dX45_rewriteCall_113 : decode cX45_rewriteCall 113 = .ok (.iconst 0, 1) := by decide +kernel
theorem dX45_rewriteCall_114 : decode cX45_rewriteCall 114 = .ok (.aload_n 0, 1) := by decide +kernel
theorem dX45_rewriteCall_115 : decode cX45_rewriteCall 115 = .ok (.getfield 424, 3) := by decide +kernel
theorem dX45_rewriteCall_118 : decode cX45_rewriteCall 118 = .ok (.iconst 1, 1) := by decide +kernel
theorem dX45_rewriteCall_119 : decode cX45_rewriteCall 119 = .ok (.laload, 1) := by decide +kernel
theorem dX45_rewriteCall_120 : decode cX45_rewriteCall 120 = .ok (.l2i, 1) := by decide +kernel
theorem dX45_rewriteCall_121 : decode cX45_rewriteCall 121 = .ok (.aload_n 0, 1) := by decide +kernel
theorem dX45_rewriteCall_122 : decode cX45_rewriteCall 122 = .ok (.getfield 424, 3) := by decide +kernel
theorem dX45_rewriteCall_125 : decode cX45_rewriteCall 125 = .ok (.iconst 2, 1) := by decide +kernel
theorem dX45_rewriteCall_126 : decode cX45_rewriteCall 126 = .ok (.laload, 1) := by decide +kernel
theorem dX45_rewriteCall_127 : decode cX45_rewriteCall 127 = .ok (.l2i, 1) := by decide +kernel
theorem dX45_rewriteCall_128 : decode cX45_rewriteCall 128 = .ok (.aload_n 0, 1) := by decide +kernel
theorem dX45_rewriteCall_129 : decode cX45_rewriteCall 129 = .ok (.getfield 424, 3) := by decide +kernel
theorem dX45_rewriteCall_132 : decode cX45_rewriteCall 132 = .ok (.iconst 3, 1) := by decide +kernel
theorem dX45_rewriteCall_133 : decode cX45_rewriteCall 133 = .ok (.laload, 1) := by decide +kernel
theorem dX45_rewriteCall_134 : decode cX45_rewriteCall 134 = .ok (.l2i, 1) := by decide +kernel
theorem dX45_rewriteCall_135 : decode cX45_rewriteCall 135 = .ok (.invokevirtual 613, 3) := by decide +kernel
theorem dX45_rewriteCall_138 : decode cX45_rewriteCall 138 = .ok (.i2l, 1) := by decide +kernel
theorem dX45_rewriteCall_139 : decode cX45_rewriteCall 139 = .ok (.lreturn, 1) := by decide +kernel
theorem dX45_rewriteCall_140 : decode cX45_rewriteCall 140 = .ok (.aload_n 0, 1) := by decide +kernel
theorem dX45_rewriteCall_141 : decode cX45_rewriteCall 141 = .ok (.getfield 403, 3) := by decide +kernel
theorem dX45_rewriteCall_144 : decode cX45_rewriteCall 144 = .ok (.aload_n 0, 1) := by decide +kernel
theorem dX45_rewriteCall_145 : decode cX45_rewriteCall 145 = .ok (.getfield 424, 3) := by decide +kernel
theorem dX45_rewriteCall_148 : decode cX45_rewriteCall 148 = .ok (.iconst 0, 1) := by decide +kernel
theorem dX45_rewriteCall_149 : decode cX45_rewriteCall 149 = .ok (.laload, 1) := by decide +kernel
theorem dX45_rewriteCall_150 : decode cX45_rewriteCall 150 = .ok (.lconst 1, 1) := by decide +kernel
theorem dX45_rewriteCall_151 : decode cX45_rewriteCall 151 = .ok (.lcmp, 1) := by decide +kernel
theorem dX45_rewriteCall_152 : decode cX45_rewriteCall 152 = .ok (.ifCond .ne 7, 3) := by decide +kernel
theorem dX45_rewriteCall_155 : decode cX45_rewriteCall 155 = .ok (.iconst 1, 1) := by decide +kernel
theorem dX45_rewriteCall_156 : decode cX45_rewriteCall 156 = .ok (.goto 4, 3) := by decide +kernel
theorem dX45_rewriteCall_159 : decode cX45_rewriteCall 159 = .ok (.iconst 0, 1) := by decide +kernel
theorem dX45_rewriteCall_160 : decode cX45_rewriteCall 160 = .ok (.aload_n 0, 1) := by decide +kernel
theorem dX45_rewriteCall_161 : decode cX45_rewriteCall 161 = .ok (.getfield 424, 3) := by decide +kernel
theorem dX45_rewriteCall_164 : decode cX45_rewriteCall 164 = .ok (.iconst 1, 1) := by decide +kernel
theorem dX45_rewriteCall_165 : decode cX45_rewriteCall 165 = .ok (.laload, 1) := by decide +kernel
theorem dX45_rewriteCall_166 : decode cX45_rewriteCall 166 = .ok (.l2i, 1) := by decide +kernel
theorem dX45_rewriteCall_167 : decode cX45_rewriteCall 167 = .ok (.aload_n 0, 1) := by decide +kernel
theorem dX45_rewriteCall_168 : decode cX45_rewriteCall 168 = .ok (.getfield 424, 3) := by decide +kernel
theorem dX45_rewriteCall_171 : decode cX45_rewriteCall 171 = .ok (.iconst 2, 1) := by decide +kernel
theorem dX45_rewriteCall_172 : decode cX45_rewriteCall 172 = .ok (.laload, 1) := by decide +kernel
theorem dX45_rewriteCall_173 : decode cX45_rewriteCall 173 = .ok (.l2i, 1) := by decide +kernel
theorem dX45_rewriteCall_174 : decode cX45_rewriteCall 174 = .ok (.aload_n 0, 1) := by decide +kernel
theorem dX45_rewriteCall_175 : decode cX45_rewriteCall 175 = .ok (.getfield 424, 3) := by decide +kernel
theorem dX45_rewriteCall_178 : decode cX45_rewriteCall 178 = .ok (.iconst 3, 1) := by decide +kernel
theorem dX45_rewriteCall_179 : decode cX45_rewriteCall 179 = .ok (.laload, 1) := by decide +kernel
theorem dX45_rewriteCall_180 : decode cX45_rewriteCall 180 = .ok (.l2i, 1) := by decide +kernel
theorem dX45_rewriteCall_181 : decode cX45_rewriteCall 181 = .ok (.invokevirtual 1003, 3) := by decide +kernel
theorem dX45_rewriteCall_184 : decode cX45_rewriteCall 184 = .ok (.i2l, 1) := by decide +kernel
theorem dX45_rewriteCall_185 : decode cX45_rewriteCall 185 = .ok (.lreturn, 1) := by decide +kernel
theorem dX45_rewriteCall_186 : decode cX45_rewriteCall 186 = .ok (.aload_n 0, 1) := by decide +kernel
theorem dX45_rewriteCall_187 : decode cX45_rewriteCall 187 = .ok (.getfield 403, 3) := by decide +kernel
theorem dX45_rewriteCall_190 : decode cX45_rewriteCall 190 = .ok (.aload_n 0, 1) := by decide +kernel
theorem dX45_rewriteCall_191 : decode cX45_rewriteCall 191 = .ok (.getfield 424, 3) := by decide +kernel
theorem dX45_rewriteCall_194 : decode cX45_rewriteCall 194 = .ok (.iconst 0, 1) := by decide +kernel
theorem dX45_rewriteCall_195 : decode cX45_rewriteCall 195 = .ok (.laload, 1) := by decide +kernel
theorem dX45_rewriteCall_196 : decode cX45_rewriteCall 196 = .ok (.l2i, 1) := by decide +kernel
theorem dX45_rewriteCall_197 : decode cX45_rewriteCall 197 = .ok (.invokevirtual 1006, 3) := by decide +kernel
theorem dX45_rewriteCall_200 : decode cX45_rewriteCall 200 = .ok (.i2l, 1) := by decide +kernel
theorem dX45_rewriteCall_201 : decode cX45_rewriteCall 201 = .ok (.lreturn, 1) := by decide +kernel
theorem dX45_rewriteCall_202 : decode cX45_rewriteCall 202 = .ok (.aload_n 0, 1) := by decide +kernel
theorem dX45_rewriteCall_203 : decode cX45_rewriteCall 203 = .ok (.getfield 403, 3) := by decide +kernel
theorem dX45_rewriteCall_206 : decode cX45_rewriteCall 206 = .ok (.aload_n 0, 1) := by decide +kernel
theorem dX45_rewriteCall_207 : decode cX45_rewriteCall 207 = .ok (.getfield 424, 3) := by decide +kernel
theorem dX45_rewriteCall_210 : decode cX45_rewriteCall 210 = .ok (.iconst 0, 1) := by decide +kernel
theorem dX45_rewriteCall_211 : decode cX45_rewriteCall 211 = .ok (.laload, 1) := by decide +kernel
theorem dX45_rewriteCall_212 : decode cX45_rewriteCall 212 = .ok (.l2i, 1) := by decide +kernel
theorem dX45_rewriteCall_213 : decode cX45_rewriteCall 213 = .ok (.aload_n 0, 1) := by decide +kernel
theorem dX45_rewriteCall_214 : decode cX45_rewriteCall 214 = .ok (.getfield 424, 3) := by decide +kernel
theorem dX45_rewriteCall_217 : decode cX45_rewriteCall 217 = .ok (.iconst 1, 1) := by decide +kernel
theorem dX45_rewriteCall_218 : decode cX45_rewriteCall 218 = .ok (.laload, 1) := by decide +kernel
theorem dX45_rewriteCall_219 : decode cX45_rewriteCall 219 = .ok (.lconst 1, 1) := by decide +kernel
theorem dX45_rewriteCall_220 : decode cX45_rewriteCall 220 = .ok (.lcmp, 1) := by decide +kernel
theorem dX45_rewriteCall_221 : decode cX45_rewriteCall 221 = .ok (.ifCond .ne 7, 3) := by decide +kernel
theorem dX45_rewriteCall_224 : decode cX45_rewriteCall 224 = .ok (.iconst 1, 1) := by decide +kernel
theorem dX45_rewriteCall_225 : decode cX45_rewriteCall 225 = .ok (.goto 4, 3) := by decide +kernel
theorem dX45_rewriteCall_228 : decode cX45_rewriteCall 228 = .ok (.iconst 0, 1) := by decide +kernel
theorem dX45_rewriteCall_229 : decode cX45_rewriteCall 229 = .ok (.aload_n 0, 1) := by decide +kernel
theorem dX45_rewriteCall_230 : decode cX45_rewriteCall 230 = .ok (.getfield 424, 3) := by decide +kernel
theorem dX45_rewriteCall_233 : decode cX45_rewriteCall 233 = .ok (.iconst 2, 1) := by decide +kernel
theorem dX45_rewriteCall_234 : decode cX45_rewriteCall 234 = .ok (.laload, 1) := by decide +kernel
theorem dX45_rewriteCall_235 : decode cX45_rewriteCall 235 = .ok (.l2i, 1) := by decide +kernel
theorem dX45_rewriteCall_236 : decode cX45_rewriteCall 236 = .ok (.aload_n 0, 1) := by decide +kernel
theorem dX45_rewriteCall_237 : decode cX45_rewriteCall 237 = .ok (.getfield 424, 3) := by decide +kernel
theorem dX45_rewriteCall_240 : decode cX45_rewriteCall 240 = .ok (.iconst 3, 1) := by decide +kernel
theorem dX45_rewriteCall_241 : decode cX45_rewriteCall 241 = .ok (.laload, 1) := by decide +kernel
theorem dX45_rewriteCall_242 : decode cX45_rewriteCall 242 = .ok (.l2i, 1) := by decide +kernel
theorem dX45_rewriteCall_243 : decode cX45_rewriteCall 243 = .ok (.aload_n 0, 1) := by decide +kernel
theorem dX45_rewriteCall_244 : decode cX45_rewriteCall 244 = .ok (.getfield 424, 3) := by decide +kernel
theorem dX45_rewriteCall_247 : decode cX45_rewriteCall 247 = .ok (.iconst 4, 1) := by decide +kernel
theorem dX45_rewriteCall_248 : decode cX45_rewriteCall 248 = .ok (.laload, 1) := by decide +kernel
theorem dX45_rewriteCall_249 : decode cX45_rewriteCall 249 = .ok (.l2i, 1) := by decide +kernel
theorem dX45_rewriteCall_250 : decode cX45_rewriteCall 250 = .ok (.invokevirtual 1009, 3) := by decide +kernel
theorem dX45_rewriteCall_253 : decode cX45_rewriteCall 253 = .ok (.i2l, 1) := by decide +kernel
theorem dX45_rewriteCall_254 : decode cX45_rewriteCall 254 = .ok (.lreturn, 1) := by decide +kernel
theorem dX45_rewriteCall_255 : decode cX45_rewriteCall 255 = .ok (.aload_n 0, 1) := by decide +kernel
theorem dX45_rewriteCall_256 : decode cX45_rewriteCall 256 = .ok (.getfield 403, 3) := by decide +kernel
theorem dX45_rewriteCall_259 : decode cX45_rewriteCall 259 = .ok (.aload_n 0, 1) := by decide +kernel
theorem dX45_rewriteCall_260 : decode cX45_rewriteCall 260 = .ok (.getfield 424, 3) := by decide +kernel
theorem dX45_rewriteCall_263 : decode cX45_rewriteCall 263 = .ok (.iconst 0, 1) := by decide +kernel
theorem dX45_rewriteCall_264 : decode cX45_rewriteCall 264 = .ok (.laload, 1) := by decide +kernel
theorem dX45_rewriteCall_265 : decode cX45_rewriteCall 265 = .ok (.l2i, 1) := by decide +kernel
theorem dX45_rewriteCall_266 : decode cX45_rewriteCall 266 = .ok (.invokevirtual 1012, 3) := by decide +kernel
theorem dX45_rewriteCall_269 : decode cX45_rewriteCall 269 = .ok (.i2l, 1) := by decide +kernel
theorem dX45_rewriteCall_270 : decode cX45_rewriteCall 270 = .ok (.lreturn, 1) := by decide +kernel
theorem dX45_rewriteCall_271 : decode cX45_rewriteCall 271 = .ok (.aload_n 0, 1) := by decide +kernel
theorem dX45_rewriteCall_272 : decode cX45_rewriteCall 272 = .ok (.getfield 403, 3) := by decide +kernel
theorem dX45_rewriteCall_275 : decode cX45_rewriteCall 275 = .ok (.aload_n 0, 1) := by decide +kernel
theorem dX45_rewriteCall_276 : decode cX45_rewriteCall 276 = .ok (.getfield 424, 3) := by decide +kernel
theorem dX45_rewriteCall_279 : decode cX45_rewriteCall 279 = .ok (.iconst 0, 1) := by decide +kernel
theorem dX45_rewriteCall_280 : decode cX45_rewriteCall 280 = .ok (.laload, 1) := by decide +kernel
theorem dX45_rewriteCall_281 : decode cX45_rewriteCall 281 = .ok (.l2i, 1) := by decide +kernel
theorem dX45_rewriteCall_282 : decode cX45_rewriteCall 282 = .ok (.aload_n 0, 1) := by decide +kernel
theorem dX45_rewriteCall_283 : decode cX45_rewriteCall 283 = .ok (.getfield 424, 3) := by decide +kernel
theorem dX45_rewriteCall_286 : decode cX45_rewriteCall 286 = .ok (.iconst 1, 1) := by decide +kernel
theorem dX45_rewriteCall_287 : decode cX45_rewriteCall 287 = .ok (.laload, 1) := by decide +kernel
theorem dX45_rewriteCall_288 : decode cX45_rewriteCall 288 = .ok (.l2i, 1) := by decide +kernel
theorem dX45_rewriteCall_289 : decode cX45_rewriteCall 289 = .ok (.aload_n 0, 1) := by decide +kernel
theorem dX45_rewriteCall_290 : decode cX45_rewriteCall 290 = .ok (.getfield 424, 3) := by decide +kernel
theorem dX45_rewriteCall_293 : decode cX45_rewriteCall 293 = .ok (.iconst 2, 1) := by decide +kernel
theorem dX45_rewriteCall_294 : decode cX45_rewriteCall 294 = .ok (.laload, 1) := by decide +kernel
theorem dX45_rewriteCall_295 : decode cX45_rewriteCall 295 = .ok (.l2i, 1) := by decide +kernel
theorem dX45_rewriteCall_296 : decode cX45_rewriteCall 296 = .ok (.invokevirtual 1015, 3) := by decide +kernel
theorem dX45_rewriteCall_299 : decode cX45_rewriteCall 299 = .ok (.i2l, 1) := by decide +kernel
theorem dX45_rewriteCall_300 : decode cX45_rewriteCall 300 = .ok (.lreturn, 1) := by decide +kernel
theorem dX45_rewriteCall_301 : decode cX45_rewriteCall 301 = .ok (.aload_n 0, 1) := by decide +kernel
theorem dX45_rewriteCall_302 : decode cX45_rewriteCall 302 = .ok (.getfield 403, 3) := by decide +kernel
theorem dX45_rewriteCall_305 : decode cX45_rewriteCall 305 = .ok (.aload_n 0, 1) := by decide +kernel
theorem dX45_rewriteCall_306 : decode cX45_rewriteCall 306 = .ok (.getfield 424, 3) := by decide +kernel
theorem dX45_rewriteCall_309 : decode cX45_rewriteCall 309 = .ok (.iconst 0, 1) := by decide +kernel
theorem dX45_rewriteCall_310 : decode cX45_rewriteCall 310 = .ok (.laload, 1) := by decide +kernel
theorem dX45_rewriteCall_311 : decode cX45_rewriteCall 311 = .ok (.l2i, 1) := by decide +kernel
theorem dX45_rewriteCall_312 : decode cX45_rewriteCall 312 = .ok (.invokevirtual 1017, 3) := by decide +kernel
theorem dX45_rewriteCall_315 : decode cX45_rewriteCall 315 = .ok (.i2l, 1) := by decide +kernel
theorem dX45_rewriteCall_316 : decode cX45_rewriteCall 316 = .ok (.lreturn, 1) := by decide +kernel
theorem dX45_rewriteCall_317 : decode cX45_rewriteCall 317 = .ok (.aload_n 0, 1) := by decide +kernel
theorem dX45_rewriteCall_318 : decode cX45_rewriteCall 318 = .ok (.getfield 403, 3) := by decide +kernel
theorem dX45_rewriteCall_321 : decode cX45_rewriteCall 321 = .ok (.aload_n 0, 1) := by decide +kernel
theorem dX45_rewriteCall_322 : decode cX45_rewriteCall 322 = .ok (.getfield 424, 3) := by decide +kernel
theorem dX45_rewriteCall_325 : decode cX45_rewriteCall 325 = .ok (.iconst 0, 1) := by decide +kernel
theorem dX45_rewriteCall_326 : decode cX45_rewriteCall 326 = .ok (.laload, 1) := by decide +kernel
theorem dX45_rewriteCall_327 : decode cX45_rewriteCall 327 = .ok (.l2i, 1) := by decide +kernel
theorem dX45_rewriteCall_328 : decode cX45_rewriteCall 328 = .ok (.aload_n 0, 1) := by decide +kernel
theorem dX45_rewriteCall_329 : decode cX45_rewriteCall 329 = .ok (.getfield 424, 3) := by decide +kernel
theorem dX45_rewriteCall_332 : decode cX45_rewriteCall 332 = .ok (.iconst 1, 1) := by decide +kernel
theorem dX45_rewriteCall_333 : decode cX45_rewriteCall 333 = .ok (.laload, 1) := by decide +kernel
theorem dX45_rewriteCall_334 : decode cX45_rewriteCall 334 = .ok (.l2i, 1) := by decide +kernel
theorem dX45_rewriteCall_335 : decode cX45_rewriteCall 335 = .ok (.invokevirtual 1019, 3) := by decide +kernel
theorem dX45_rewriteCall_338 : decode cX45_rewriteCall 338 = .ok (.i2l, 1) := by decide +kernel
theorem dX45_rewriteCall_339 : decode cX45_rewriteCall 339 = .ok (.lreturn, 1) := by decide +kernel
theorem dX45_rewriteCall_340 : decode cX45_rewriteCall 340 = .ok (.aload_n 0, 1) := by decide +kernel
theorem dX45_rewriteCall_341 : decode cX45_rewriteCall 341 = .ok (.getfield 403, 3) := by decide +kernel
theorem dX45_rewriteCall_344 : decode cX45_rewriteCall 344 = .ok (.aload_n 0, 1) := by decide +kernel
theorem dX45_rewriteCall_345 : decode cX45_rewriteCall 345 = .ok (.getfield 424, 3) := by decide +kernel
theorem dX45_rewriteCall_348 : decode cX45_rewriteCall 348 = .ok (.iconst 0, 1) := by decide +kernel
theorem dX45_rewriteCall_349 : decode cX45_rewriteCall 349 = .ok (.laload, 1) := by decide +kernel
theorem dX45_rewriteCall_350 : decode cX45_rewriteCall 350 = .ok (.l2i, 1) := by decide +kernel
theorem dX45_rewriteCall_351 : decode cX45_rewriteCall 351 = .ok (.aload_n 0, 1) := by decide +kernel
theorem dX45_rewriteCall_352 : decode cX45_rewriteCall 352 = .ok (.getfield 424, 3) := by decide +kernel
theorem dX45_rewriteCall_355 : decode cX45_rewriteCall 355 = .ok (.iconst 1, 1) := by decide +kernel
theorem dX45_rewriteCall_356 : decode cX45_rewriteCall 356 = .ok (.laload, 1) := by decide +kernel
theorem dX45_rewriteCall_357 : decode cX45_rewriteCall 357 = .ok (.l2i, 1) := by decide +kernel
theorem dX45_rewriteCall_358 : decode cX45_rewriteCall 358 = .ok (.invokevirtual 1022, 3) := by decide +kernel
theorem dX45_rewriteCall_361 : decode cX45_rewriteCall 361 = .ok (.i2l, 1) := by decide +kernel
theorem dX45_rewriteCall_362 : decode cX45_rewriteCall 362 = .ok (.lreturn, 1) := by decide +kernel
theorem dX45_rewriteCall_363 : decode cX45_rewriteCall 363 = .ok (.aload_n 0, 1) := by decide +kernel
theorem dX45_rewriteCall_364 : decode cX45_rewriteCall 364 = .ok (.getfield 403, 3) := by decide +kernel
theorem dX45_rewriteCall_367 : decode cX45_rewriteCall 367 = .ok (.invokevirtual 1025, 3) := by decide +kernel
theorem dX45_rewriteCall_370 : decode cX45_rewriteCall 370 = .ok (.i2l, 1) := by decide +kernel
theorem dX45_rewriteCall_371 : decode cX45_rewriteCall 371 = .ok (.lreturn, 1) := by decide +kernel
theorem dX45_rewriteCall_372 : decode cX45_rewriteCall 372 = .ok (.aload_n 0, 1) := by decide +kernel
theorem dX45_rewriteCall_373 : decode cX45_rewriteCall 373 = .ok (.getfield 403, 3) := by decide +kernel
theorem dX45_rewriteCall_376 : decode cX45_rewriteCall 376 = .ok (.aload_n 0, 1) := by decide +kernel
theorem dX45_rewriteCall_377 : decode cX45_rewriteCall 377 = .ok (.getfield 424, 3) := by decide +kernel
theorem dX45_rewriteCall_380 : decode cX45_rewriteCall 380 = .ok (.iconst 0, 1) := by decide +kernel
theorem dX45_rewriteCall_381 : decode cX45_rewriteCall 381 = .ok (.laload, 1) := by decide +kernel
theorem dX45_rewriteCall_382 : decode cX45_rewriteCall 382 = .ok (.l2i, 1) := by decide +kernel
theorem dX45_rewriteCall_383 : decode cX45_rewriteCall 383 = .ok (.invokevirtual 1026, 3) := by decide +kernel
theorem dX45_rewriteCall_386 : decode cX45_rewriteCall 386 = .ok (.i2l, 1) := by decide +kernel
theorem dX45_rewriteCall_387 : decode cX45_rewriteCall 387 = .ok (.lreturn, 1) := by decide +kernel
theorem dX45_rewriteCall_388 : decode cX45_rewriteCall 388 = .ok (.aload_n 0, 1) := by decide +kernel
theorem dX45_rewriteCall_389 : decode cX45_rewriteCall 389 = .ok (.getfield 403, 3) := by decide +kernel
theorem dX45_rewriteCall_392 : decode cX45_rewriteCall 392 = .ok (.invokevirtual 1027, 3) := by decide +kernel
theorem dX45_rewriteCall_395 : decode cX45_rewriteCall 395 = .ok (.i2l, 1) := by decide +kernel
theorem dX45_rewriteCall_396 : decode cX45_rewriteCall 396 = .ok (.lreturn, 1) := by decide +kernel
abbrev cX45_diskCall : ByteArray := prog_78_method_45_code
def yX45_diskCall : MethodName := ⟨RX45, "diskCall", "(I)J"⟩
theorem dX45_diskCall_0 : decode cX45_diskCall 0 = .ok (.iload_n 1, 1) := by decide +kernel
theorem dX45_diskCall_1 : decode cX45_diskCall 1 = .ok (.tableswitch 235 0 9 #[55, 84, 100, 109, 132, 141, 171, 187, 203, 219], 55) := by decide +kernel
theorem dX45_diskCall_56 : decode cX45_diskCall 56 = .ok (.aload_n 0, 1) := by decide +kernel
theorem dX45_diskCall_57 : decode cX45_diskCall 57 = .ok (.getfield 411, 3) := by decide +kernel
theorem dX45_diskCall_60 : decode cX45_diskCall 60 = .ok (.aload_n 0, 1) := by decide +kernel
theorem dX45_diskCall_61 : decode cX45_diskCall 61 = .ok (.getfield 424, 3) := by decide +kernel
theorem dX45_diskCall_64 : decode cX45_diskCall 64 = .ok (.iconst 0, 1) := by decide +kernel
theorem dX45_diskCall_65 : decode cX45_diskCall 65 = .ok (.laload, 1) := by decide +kernel
theorem dX45_diskCall_66 : decode cX45_diskCall 66 = .ok (.l2i, 1) := by decide +kernel
theorem dX45_diskCall_67 : decode cX45_diskCall 67 = .ok (.aload_n 0, 1) := by decide +kernel
theorem dX45_diskCall_68 : decode cX45_diskCall 68 = .ok (.getfield 424, 3) := by decide +kernel
theorem dX45_diskCall_71 : decode cX45_diskCall 71 = .ok (.iconst 1, 1) := by decide +kernel
theorem dX45_diskCall_72 : decode cX45_diskCall 72 = .ok (.laload, 1) := by decide +kernel
theorem dX45_diskCall_73 : decode cX45_diskCall 73 = .ok (.l2i, 1) := by decide +kernel
theorem dX45_diskCall_74 : decode cX45_diskCall 74 = .ok (.aload_n 0, 1) := by decide +kernel
theorem dX45_diskCall_75 : decode cX45_diskCall 75 = .ok (.getfield 424, 3) := by decide +kernel
theorem dX45_diskCall_78 : decode cX45_diskCall 78 = .ok (.iconst 2, 1) := by decide +kernel
theorem dX45_diskCall_79 : decode cX45_diskCall 79 = .ok (.laload, 1) := by decide +kernel
theorem dX45_diskCall_80 : decode cX45_diskCall 80 = .ok (.invokevirtual 641, 3) := by decide +kernel
theorem dX45_diskCall_83 : decode cX45_diskCall 83 = .ok (.i2l, 1) := by decide +kernel
theorem dX45_diskCall_84 : decode cX45_diskCall 84 = .ok (.lreturn, 1) := by decide +kernel
theorem dX45_diskCall_85 : decode cX45_diskCall 85 = .ok (.aload_n 0, 1) := by decide +kernel
theorem dX45_diskCall_86 : decode cX45_diskCall 86 = .ok (.getfield 411, 3) := by decide +kernel
theorem dX45_diskCall_89 : decode cX45_diskCall 89 = .ok (.aload_n 0, 1) := by decide +kernel
theorem dX45_diskCall_90 : decode cX45_diskCall 90 = .ok (.getfield 424, 3) := by decide +kernel
theorem dX45_diskCall_93 : decode cX45_diskCall 93 = .ok (.iconst 0, 1) := by decide +kernel
theorem dX45_diskCall_94 : decode cX45_diskCall 94 = .ok (.laload, 1) := by decide +kernel
theorem dX45_diskCall_95 : decode cX45_diskCall 95 = .ok (.l2i, 1) := by decide +kernel
theorem dX45_diskCall_96 : decode cX45_diskCall 96 = .ok (.invokevirtual 645, 3) := by decide +kernel
theorem dX45_diskCall_99 : decode cX45_diskCall 99 = .ok (.i2l, 1) := by decide +kernel
theorem dX45_diskCall_100 : decode cX45_diskCall 100 = .ok (.lreturn, 1) := by decide +kernel
theorem dX45_diskCall_101 : decode cX45_diskCall 101 = .ok (.aload_n 0, 1) := by decide +kernel
theorem dX45_diskCall_102 : decode cX45_diskCall 102 = .ok (.getfield 411, 3) := by decide +kernel
theorem dX45_diskCall_105 : decode cX45_diskCall 105 = .ok (.invokevirtual 646, 3) := by decide +kernel
theorem dX45_diskCall_108 : decode cX45_diskCall 108 = .ok (.i2l, 1) := by decide +kernel
theorem dX45_diskCall_109 : decode cX45_diskCall 109 = .ok (.lreturn, 1) := by decide +kernel
theorem dX45_diskCall_110 : decode cX45_diskCall 110 = .ok (.aload_n 0, 1) := by decide +kernel
theorem dX45_diskCall_111 : decode cX45_diskCall 111 = .ok (.getfield 411, 3) := by decide +kernel
theorem dX45_diskCall_114 : decode cX45_diskCall 114 = .ok (.aload_n 0, 1) := by decide +kernel
theorem dX45_diskCall_115 : decode cX45_diskCall 115 = .ok (.getfield 424, 3) := by decide +kernel
theorem dX45_diskCall_118 : decode cX45_diskCall 118 = .ok (.iconst 0, 1) := by decide +kernel
theorem dX45_diskCall_119 : decode cX45_diskCall 119 = .ok (.laload, 1) := by decide +kernel
theorem dX45_diskCall_120 : decode cX45_diskCall 120 = .ok (.l2i, 1) := by decide +kernel
theorem dX45_diskCall_121 : decode cX45_diskCall 121 = .ok (.aload_n 0, 1) := by decide +kernel
theorem dX45_diskCall_122 : decode cX45_diskCall 122 = .ok (.getfield 424, 3) := by decide +kernel
theorem dX45_diskCall_125 : decode cX45_diskCall 125 = .ok (.iconst 1, 1) := by decide +kernel
theorem dX45_diskCall_126 : decode cX45_diskCall 126 = .ok (.laload, 1) := by decide +kernel
theorem dX45_diskCall_127 : decode cX45_diskCall 127 = .ok (.l2i, 1) := by decide +kernel
theorem dX45_diskCall_128 : decode cX45_diskCall 128 = .ok (.invokevirtual 1028, 3) := by decide +kernel
theorem dX45_diskCall_131 : decode cX45_diskCall 131 = .ok (.lconst 1, 1) := by decide +kernel
theorem dX45_diskCall_132 : decode cX45_diskCall 132 = .ok (.lreturn, 1) := by decide +kernel
theorem dX45_diskCall_133 : decode cX45_diskCall 133 = .ok (.aload_n 0, 1) := by decide +kernel
theorem dX45_diskCall_134 : decode cX45_diskCall 134 = .ok (.getfield 411, 3) := by decide +kernel
theorem dX45_diskCall_137 : decode cX45_diskCall 137 = .ok (.invokevirtual 1031, 3) := by decide +kernel
theorem dX45_diskCall_140 : decode cX45_diskCall 140 = .ok (.i2l, 1) := by decide +kernel
theorem dX45_diskCall_141 : decode cX45_diskCall 141 = .ok (.lreturn, 1) := by decide +kernel
theorem dX45_diskCall_142 : decode cX45_diskCall 142 = .ok (.aload_n 0, 1) := by decide +kernel
theorem dX45_diskCall_143 : decode cX45_diskCall 143 = .ok (.getfield 411, 3) := by decide +kernel
theorem dX45_diskCall_146 : decode cX45_diskCall 146 = .ok (.aload_n 0, 1) := by decide +kernel
theorem dX45_diskCall_147 : decode cX45_diskCall 147 = .ok (.getfield 424, 3) := by decide +kernel
theorem dX45_diskCall_150 : decode cX45_diskCall 150 = .ok (.iconst 0, 1) := by decide +kernel
theorem dX45_diskCall_151 : decode cX45_diskCall 151 = .ok (.laload, 1) := by decide +kernel
theorem dX45_diskCall_152 : decode cX45_diskCall 152 = .ok (.l2i, 1) := by decide +kernel
theorem dX45_diskCall_153 : decode cX45_diskCall 153 = .ok (.aload_n 0, 1) := by decide +kernel
theorem dX45_diskCall_154 : decode cX45_diskCall 154 = .ok (.getfield 424, 3) := by decide +kernel
theorem dX45_diskCall_157 : decode cX45_diskCall 157 = .ok (.iconst 1, 1) := by decide +kernel
theorem dX45_diskCall_158 : decode cX45_diskCall 158 = .ok (.laload, 1) := by decide +kernel
theorem dX45_diskCall_159 : decode cX45_diskCall 159 = .ok (.l2i, 1) := by decide +kernel
theorem dX45_diskCall_160 : decode cX45_diskCall 160 = .ok (.aload_n 0, 1) := by decide +kernel
theorem dX45_diskCall_161 : decode cX45_diskCall 161 = .ok (.getfield 424, 3) := by decide +kernel
theorem dX45_diskCall_164 : decode cX45_diskCall 164 = .ok (.iconst 2, 1) := by decide +kernel
theorem dX45_diskCall_165 : decode cX45_diskCall 165 = .ok (.laload, 1) := by decide +kernel
theorem dX45_diskCall_166 : decode cX45_diskCall 166 = .ok (.l2i, 1) := by decide +kernel
theorem dX45_diskCall_167 : decode cX45_diskCall 167 = .ok (.invokevirtual 1034, 3) := by decide +kernel
theorem dX45_diskCall_170 : decode cX45_diskCall 170 = .ok (.i2l, 1) := by decide +kernel
theorem dX45_diskCall_171 : decode cX45_diskCall 171 = .ok (.lreturn, 1) := by decide +kernel
theorem dX45_diskCall_172 : decode cX45_diskCall 172 = .ok (.aload_n 0, 1) := by decide +kernel
theorem dX45_diskCall_173 : decode cX45_diskCall 173 = .ok (.getfield 411, 3) := by decide +kernel
theorem dX45_diskCall_176 : decode cX45_diskCall 176 = .ok (.aload_n 0, 1) := by decide +kernel
theorem dX45_diskCall_177 : decode cX45_diskCall 177 = .ok (.getfield 424, 3) := by decide +kernel
theorem dX45_diskCall_180 : decode cX45_diskCall 180 = .ok (.iconst 0, 1) := by decide +kernel
theorem dX45_diskCall_181 : decode cX45_diskCall 181 = .ok (.laload, 1) := by decide +kernel
theorem dX45_diskCall_182 : decode cX45_diskCall 182 = .ok (.l2i, 1) := by decide +kernel
theorem dX45_diskCall_183 : decode cX45_diskCall 183 = .ok (.invokevirtual 1037, 3) := by decide +kernel
theorem dX45_diskCall_186 : decode cX45_diskCall 186 = .ok (.i2l, 1) := by decide +kernel
theorem dX45_diskCall_187 : decode cX45_diskCall 187 = .ok (.lreturn, 1) := by decide +kernel
theorem dX45_diskCall_188 : decode cX45_diskCall 188 = .ok (.aload_n 0, 1) := by decide +kernel
theorem dX45_diskCall_189 : decode cX45_diskCall 189 = .ok (.getfield 411, 3) := by decide +kernel
theorem dX45_diskCall_192 : decode cX45_diskCall 192 = .ok (.aload_n 0, 1) := by decide +kernel
theorem dX45_diskCall_193 : decode cX45_diskCall 193 = .ok (.getfield 424, 3) := by decide +kernel
theorem dX45_diskCall_196 : decode cX45_diskCall 196 = .ok (.iconst 0, 1) := by decide +kernel
theorem dX45_diskCall_197 : decode cX45_diskCall 197 = .ok (.laload, 1) := by decide +kernel
theorem dX45_diskCall_198 : decode cX45_diskCall 198 = .ok (.l2i, 1) := by decide +kernel
theorem dX45_diskCall_199 : decode cX45_diskCall 199 = .ok (.invokevirtual 1039, 3) := by decide +kernel
theorem dX45_diskCall_202 : decode cX45_diskCall 202 = .ok (.i2l, 1) := by decide +kernel
theorem dX45_diskCall_203 : decode cX45_diskCall 203 = .ok (.lreturn, 1) := by decide +kernel
theorem dX45_diskCall_204 : decode cX45_diskCall 204 = .ok (.aload_n 0, 1) := by decide +kernel
theorem dX45_diskCall_205 : decode cX45_diskCall 205 = .ok (.getfield 411, 3) := by decide +kernel
theorem dX45_diskCall_208 : decode cX45_diskCall 208 = .ok (.aload_n 0, 1) := by decide +kernel
theorem dX45_diskCall_209 : decode cX45_diskCall 209 = .ok (.getfield 424, 3) := by decide +kernel
theorem dX45_diskCall_212 : decode cX45_diskCall 212 = .ok (.iconst 0, 1) := by decide +kernel
theorem dX45_diskCall_213 : decode cX45_diskCall 213 = .ok (.laload, 1) := by decide +kernel
theorem dX45_diskCall_214 : decode cX45_diskCall 214 = .ok (.l2i, 1) := by decide +kernel
theorem dX45_diskCall_215 : decode cX45_diskCall 215 = .ok (.invokevirtual 1042, 3) := by decide +kernel
theorem dX45_diskCall_218 : decode cX45_diskCall 218 = .ok (.i2l, 1) := by decide +kernel
theorem dX45_diskCall_219 : decode cX45_diskCall 219 = .ok (.lreturn, 1) := by decide +kernel
theorem dX45_diskCall_220 : decode cX45_diskCall 220 = .ok (.aload_n 0, 1) := by decide +kernel
theorem dX45_diskCall_221 : decode cX45_diskCall 221 = .ok (.getfield 411, 3) := by decide +kernel
theorem dX45_diskCall_224 : decode cX45_diskCall 224 = .ok (.aload_n 0, 1) := by decide +kernel
theorem dX45_diskCall_225 : decode cX45_diskCall 225 = .ok (.getfield 424, 3) := by decide +kernel
theorem dX45_diskCall_228 : decode cX45_diskCall 228 = .ok (.iconst 0, 1) := by decide +kernel
theorem dX45_diskCall_229 : decode cX45_diskCall 229 = .ok (.laload, 1) := by decide +kernel
theorem dX45_diskCall_230 : decode cX45_diskCall 230 = .ok (.l2i, 1) := by decide +kernel
theorem dX45_diskCall_231 : decode cX45_diskCall 231 = .ok (.invokevirtual 1043, 3) := by decide +kernel
theorem dX45_diskCall_234 : decode cX45_diskCall 234 = .ok (.i2l, 1) := by decide +kernel
theorem dX45_diskCall_235 : decode cX45_diskCall 235 = .ok (.lreturn, 1) := by decide +kernel
theorem dX45_diskCall_236 : decode cX45_diskCall 236 = .ok (.aload_n 0, 1) := by decide +kernel
theorem dX45_diskCall_237 : decode cX45_diskCall 237 = .ok (.getfield 411, 3) := by decide +kernel
theorem dX45_diskCall_240 : decode cX45_diskCall 240 = .ok (.aload_n 0, 1) := by decide +kernel
theorem dX45_diskCall_241 : decode cX45_diskCall 241 = .ok (.getfield 424, 3) := by decide +kernel
theorem dX45_diskCall_244 : decode cX45_diskCall 244 = .ok (.iconst 0, 1) := by decide +kernel
theorem dX45_diskCall_245 : decode cX45_diskCall 245 = .ok (.laload, 1) := by decide +kernel
theorem dX45_diskCall_246 : decode cX45_diskCall 246 = .ok (.lconst 1, 1) := by decide +kernel
theorem dX45_diskCall_247 : decode cX45_diskCall 247 = .ok (.lcmp, 1) := by decide +kernel
theorem dX45_diskCall_248 : decode cX45_diskCall 248 = .ok (.ifCond .ne 7, 3) := by decide +kernel
theorem dX45_diskCall_251 : decode cX45_diskCall 251 = .ok (.iconst 1, 1) := by decide +kernel
theorem dX45_diskCall_252 : decode cX45_diskCall 252 = .ok (.goto 4, 3) := by decide +kernel
theorem dX45_diskCall_255 : decode cX45_diskCall 255 = .ok (.iconst 0, 1) := by decide +kernel
theorem dX45_diskCall_256 : decode cX45_diskCall 256 = .ok (.invokevirtual 1046, 3) := by decide +kernel
theorem dX45_diskCall_259 : decode cX45_diskCall 259 = .ok (.ifCond .eq 7, 3) := by decide +kernel
theorem dX45_diskCall_262 : decode cX45_diskCall 262 = .ok (.lconst 1, 1) := by decide +kernel
theorem dX45_diskCall_263 : decode cX45_diskCall 263 = .ok (.goto 4, 3) := by decide +kernel
theorem dX45_diskCall_266 : decode cX45_diskCall 266 = .ok (.lconst 0, 1) := by decide +kernel
theorem dX45_diskCall_267 : decode cX45_diskCall 267 = .ok (.lreturn, 1) := by decide +kernel
abbrev cX45_isThrown : ByteArray := prog_78_method_33_code
def yX45_isThrown : MethodName := ⟨RX45, "isThrown", "(II)Z"⟩
theorem dX45_isThrown_0 : decode cX45_isThrown 0 = .ok (.iload_n 1, 1) := by decide +kernel
theorem dX45_isThrown_1 : decode cX45_isThrown 1 = .ok (.iconst 2, 1) := by decide +kernel
theorem dX45_isThrown_2 : decode cX45_isThrown 2 = .ok (.if_icmp .ne 31, 3) := by decide +kernel
theorem dX45_isThrown_5 : decode cX45_isThrown 5 = .ok (.iload_n 2, 1) := by decide +kernel
theorem dX45_isThrown_6 : decode cX45_isThrown 6 = .ok (.bipush 10, 2) := by decide +kernel
theorem dX45_isThrown_8 : decode cX45_isThrown 8 = .ok (.if_icmp .lt 15, 3) := by decide +kernel
theorem dX45_isThrown_11 : decode cX45_isThrown 11 = .ok (.iload_n 2, 1) := by decide +kernel
theorem dX45_isThrown_12 : decode cX45_isThrown 12 = .ok (.bipush 13, 2) := by decide +kernel
theorem dX45_isThrown_14 : decode cX45_isThrown 14 = .ok (.if_icmp .le 19, 3) := by decide +kernel
theorem dX45_isThrown_17 : decode cX45_isThrown 17 = .ok (.iload_n 2, 1) := by decide +kernel
theorem dX45_isThrown_18 : decode cX45_isThrown 18 = .ok (.bipush 16, 2) := by decide +kernel
theorem dX45_isThrown_20 : decode cX45_isThrown 20 = .ok (.if_icmp .eq 13, 3) := by decide +kernel
theorem dX45_isThrown_23 : decode cX45_isThrown 23 = .ok (.aload_n 0, 1) := by decide +kernel
theorem dX45_isThrown_24 : decode cX45_isThrown 24 = .ok (.getfield 355, 3) := by decide +kernel
theorem dX45_isThrown_27 : decode cX45_isThrown 27 = .ok (.invokevirtual 554, 3) := by decide +kernel
theorem dX45_isThrown_30 : decode cX45_isThrown 30 = .ok (.ifCond .ne 25, 3) := by decide +kernel
theorem dX45_isThrown_33 : decode cX45_isThrown 33 = .ok (.iload_n 1, 1) := by decide +kernel
theorem dX45_isThrown_34 : decode cX45_isThrown 34 = .ok (.bipush 8, 2) := by decide +kernel
theorem dX45_isThrown_36 : decode cX45_isThrown 36 = .ok (.if_icmp .ne 23, 3) := by decide +kernel
theorem dX45_isThrown_39 : decode cX45_isThrown 39 = .ok (.iload_n 2, 1) := by decide +kernel
theorem dX45_isThrown_40 : decode cX45_isThrown 40 = .ok (.bipush 12, 2) := by decide +kernel
theorem dX45_isThrown_42 : decode cX45_isThrown 42 = .ok (.if_icmp .ne 17, 3) := by decide +kernel
theorem dX45_isThrown_45 : decode cX45_isThrown 45 = .ok (.aload_n 0, 1) := by decide +kernel
theorem dX45_isThrown_46 : decode cX45_isThrown 46 = .ok (.getfield 391, 3) := by decide +kernel
theorem dX45_isThrown_49 : decode cX45_isThrown 49 = .ok (.invokevirtual 630, 3) := by decide +kernel
theorem dX45_isThrown_52 : decode cX45_isThrown 52 = .ok (.ifCond .eq 7, 3) := by decide +kernel
theorem dX45_isThrown_55 : decode cX45_isThrown 55 = .ok (.iconst 1, 1) := by decide +kernel
theorem dX45_isThrown_56 : decode cX45_isThrown 56 = .ok (.goto 4, 3) := by decide +kernel
theorem dX45_isThrown_59 : decode cX45_isThrown 59 = .ok (.iconst 0, 1) := by decide +kernel
theorem dX45_isThrown_60 : decode cX45_isThrown 60 = .ok (.ireturn, 1) := by decide +kernel
abbrev cX45_wrong : ByteArray := prog_78_method_11_code
def yX45_wrong : MethodName := ⟨RX45, "wrong", "()I"⟩
theorem dX45_wrong_0 : decode cX45_wrong 0 = .ok (.aload_n 0, 1) := by decide +kernel
theorem dX45_wrong_1 : decode cX45_wrong 1 = .ok (.getfield 435, 3) := by decide +kernel
theorem dX45_wrong_4 : decode cX45_wrong 4 = .ok (.ireturn, 1) := by decide +kernel
abbrev cX45_answers : ByteArray := prog_78_method_12_code
def yX45_answers : MethodName := ⟨RX45, "answers", "()I"⟩
theorem dX45_answers_0 : decode cX45_answers 0 = .ok (.aload_n 0, 1) := by decide +kernel
theorem dX45_answers_1 : decode cX45_answers 1 = .ok (.getfield 472, 3) := by decide +kernel
theorem dX45_answers_4 : decode cX45_answers 4 = .ok (.ireturn, 1) := by decide +kernel
abbrev cX45_answer : ByteArray := prog_78_method_13_code
def yX45_answer : MethodName := ⟨RX45, "answer", "(I)J"⟩
theorem dX45_answer_0 : decode cX45_answer 0 = .ok (.iload_n 1, 1) := by decide +kernel
theorem dX45_answer_1 : decode cX45_answer 1 = .ok (.ifCond .lt 11, 3) := by decide +kernel
theorem dX45_answer_4 : decode cX45_answer 4 = .ok (.iload_n 1, 1) := by decide +kernel
theorem dX45_answer_5 : decode cX45_answer 5 = .ok (.aload_n 0, 1) := by decide +kernel
theorem dX45_answer_6 : decode cX45_answer 6 = .ok (.getfield 472, 3) := by decide +kernel
theorem dX45_answer_9 : decode cX45_answer 9 = .ok (.if_icmp .lt 9, 3) := by decide +kernel
theorem dX45_answer_12 : decode cX45_answer 12 = .ok (.ldc2_w 506, 3) := by decide +kernel
theorem dX45_answer_15 : decode cX45_answer 15 = .ok (.goto 9, 3) := by decide +kernel
theorem dX45_answer_18 : decode cX45_answer 18 = .ok (.aload_n 0, 1) := by decide +kernel
theorem dX45_answer_19 : decode cX45_answer 19 = .ok (.getfield 428, 3) := by decide +kernel
theorem dX45_answer_22 : decode cX45_answer 22 = .ok (.iload_n 1, 1) := by decide +kernel
theorem dX45_answer_23 : decode cX45_answer 23 = .ok (.laload, 1) := by decide +kernel
theorem dX45_answer_24 : decode cX45_answer 24 = .ok (.lreturn, 1) := by decide +kernel
abbrev cX45_threw : ByteArray := prog_78_method_14_code
def yX45_threw : MethodName := ⟨RX45, "threw", "(I)Z"⟩
theorem dX45_threw_0 : decode cX45_threw 0 = .ok (.iload_n 1, 1) := by decide +kernel
theorem dX45_threw_1 : decode cX45_threw 1 = .ok (.ifCond .lt 24, 3) := by decide +kernel
theorem dX45_threw_4 : decode cX45_threw 4 = .ok (.iload_n 1, 1) := by decide +kernel
theorem dX45_threw_5 : decode cX45_threw 5 = .ok (.aload_n 0, 1) := by decide +kernel
theorem dX45_threw_6 : decode cX45_threw 6 = .ok (.getfield 472, 3) := by decide +kernel
theorem dX45_threw_9 : decode cX45_threw 9 = .ok (.if_icmp .ge 16, 3) := by decide +kernel
theorem dX45_threw_12 : decode cX45_threw 12 = .ok (.aload_n 0, 1) := by decide +kernel
theorem dX45_threw_13 : decode cX45_threw 13 = .ok (.getfield 431, 3) := by decide +kernel
theorem dX45_threw_16 : decode cX45_threw 16 = .ok (.iload_n 1, 1) := by decide +kernel
theorem dX45_threw_17 : decode cX45_threw 17 = .ok (.baload, 1) := by decide +kernel
theorem dX45_threw_18 : decode cX45_threw 18 = .ok (.ifCond .eq 7, 3) := by decide +kernel
theorem dX45_threw_21 : decode cX45_threw 21 = .ok (.iconst 1, 1) := by decide +kernel
theorem dX45_threw_22 : decode cX45_threw 22 = .ok (.goto 4, 3) := by decide +kernel
theorem dX45_threw_25 : decode cX45_threw 25 = .ok (.iconst 0, 1) := by decide +kernel
theorem dX45_threw_26 : decode cX45_threw 26 = .ok (.ireturn, 1) := by decide +kernel
abbrev cX45_entries : ByteArray := prog_78_method_15_code
def yX45_entries : MethodName := ⟨RX45, "entries", "()I"⟩
theorem dX45_entries_0 : decode cX45_entries 0 = .ok (.aload_n 0, 1) := by decide +kernel
theorem dX45_entries_1 : decode cX45_entries 1 = .ok (.getfield 515, 3) := by decide +kernel
theorem dX45_entries_4 : decode cX45_entries 4 = .ok (.ireturn, 1) := by decide +kernel
theorem in_X45 : ∀ w ∈ wsX450, w ∈ lw_all := lw_in wsX450 [6882, 6884, 6886, 6888, 6890, 6892, 6894, 6896, 6898, 6900, 6902, 6904, 6906, 6908, 6910, 6912, 6914, 6916, 6918, 6920, 6922, 6924, 6926, 6928, 6930, 6932] (by decide +kernel) (by decide +kernel)
def RX46 : String := "KnowHouseModel$Calls"
def TX46 : u_T := fun k => match k with
  | _ => ("KnowHouseModel$Calls", "texts", "[Ljava/lang/String;", true)
def tyX46 : Nat → FieldType := fun k => match k with
  | _ => .array (.object "java/lang/String")
abbrev wsX460 : List Cond := u_ws RX46 TX46 1
theorem nmX46 : ∀ a, a < 1 → ∀ b, b < 1 → a ≠ b → (TX46 a).2.1 ≠ (TX46 b).2.1 := by decide +kernel
theorem tyX46_ok : ∀ k, k < 1 → parseFieldDescriptor (TX46 k).2.2.1 = some (tyX46 k) := by decide +kernel
abbrev cX46_init : ByteArray := prog_79_method_1_code
def yX46_init : MethodName := ⟨RX46, "<init>", "([Ljava/lang/String;)V"⟩
theorem dX46_init_0 : decode cX46_init 0 = .ok (.aload_n 0, 1) := by decide +kernel
theorem dX46_init_1 : decode cX46_init 1 = .ok (.invokespecial 1, 3) := by decide +kernel
theorem dX46_init_4 : decode cX46_init 4 = .ok (.aload_n 0, 1) := by decide +kernel
theorem dX46_init_5 : decode cX46_init 5 = .ok (.aload_n 1, 1) := by decide +kernel
theorem dX46_init_6 : decode cX46_init 6 = .ok (.putfield 7, 3) := by decide +kernel
theorem dX46_init_9 : decode cX46_init 9 = .ok (.return_, 1) := by decide +kernel
theorem in_X46 : ∀ w ∈ wsX460, w ∈ lw_all := lw_in wsX460 [5747] (by decide +kernel) (by decide +kernel)
theorem dJ16_checkBoundsBeginEnd_0 : decode cJ16_checkBoundsBeginEnd 0 = .ok (.iload_n 0, 1) := by decide +kernel
theorem dJ16_checkBoundsBeginEnd_1 : decode cJ16_checkBoundsBeginEnd 1 = .ok (.iload_n 1, 1) := by decide +kernel
theorem dJ16_checkBoundsBeginEnd_2 : decode cJ16_checkBoundsBeginEnd 2 = .ok (.iload_n 2, 1) := by decide +kernel
theorem dJ16_checkBoundsBeginEnd_3 : decode cJ16_checkBoundsBeginEnd 3 = .ok (.getstatic 1053, 3) := by decide +kernel
theorem dJ16_checkBoundsBeginEnd_6 : decode cJ16_checkBoundsBeginEnd 6 = .ok (.invokestatic 1062, 3) := by decide +kernel
theorem dJ16_checkBoundsBeginEnd_9 : decode cJ16_checkBoundsBeginEnd 9 = .ok (.pop, 1) := by decide +kernel
theorem dJ16_checkBoundsBeginEnd_10 : decode cJ16_checkBoundsBeginEnd 10 = .ok (.return_, 1) := by decide +kernel
theorem dJ17_newString_0 : decode cJ17_newString 0 = .ok (.iload_n 2, 1) := by decide +kernel
theorem dJ17_newString_1 : decode cJ17_newString 1 = .ok (.ifCond .ne 6, 3) := by decide +kernel
theorem dJ17_newString_4 : decode cJ17_newString 4 = .ok (.ldc 151, 2) := by decide +kernel
theorem dJ17_newString_6 : decode cJ17_newString 6 = .ok (.areturn, 1) := by decide +kernel
theorem dJ17_newString_7 : decode cJ17_newString 7 = .ok (.new 1, 3) := by decide +kernel
theorem dJ17_newString_10 : decode cJ17_newString 10 = .ok (.dup, 1) := by decide +kernel
theorem dJ17_newString_11 : decode cJ17_newString 11 = .ok (.aload_n 0, 1) := by decide +kernel
theorem dJ17_newString_12 : decode cJ17_newString 12 = .ok (.iload_n 1, 1) := by decide +kernel
theorem dJ17_newString_13 : decode cJ17_newString 13 = .ok (.iload_n 1, 1) := by decide +kernel
theorem dJ17_newString_14 : decode cJ17_newString 14 = .ok (.iload_n 2, 1) := by decide +kernel
theorem dJ17_newString_15 : decode cJ17_newString 15 = .ok (.iadd, 1) := by decide +kernel
theorem dJ17_newString_16 : decode cJ17_newString 16 = .ok (.invokestatic 232, 3) := by decide +kernel
theorem dJ17_newString_19 : decode cJ17_newString 19 = .ok (.iconst 0, 1) := by decide +kernel
theorem dJ17_newString_20 : decode cJ17_newString 20 = .ok (.invokespecial 112, 3) := by decide +kernel
theorem dJ17_newString_23 : decode cJ17_newString 23 = .ok (.areturn, 1) := by decide +kernel
theorem dJ15_checkFromToIndex_0 : decode cJ15_checkFromToIndex 0 = .ok (.iload_n 0, 1) := by decide +kernel
theorem dJ15_checkFromToIndex_1 : decode cJ15_checkFromToIndex 1 = .ok (.ifCond .lt 13, 3) := by decide +kernel
theorem dJ15_checkFromToIndex_4 : decode cJ15_checkFromToIndex 4 = .ok (.iload_n 0, 1) := by decide +kernel
theorem dJ15_checkFromToIndex_5 : decode cJ15_checkFromToIndex 5 = .ok (.iload_n 1, 1) := by decide +kernel
theorem dJ15_checkFromToIndex_6 : decode cJ15_checkFromToIndex 6 = .ok (.if_icmp .gt 8, 3) := by decide +kernel
theorem dJ15_checkFromToIndex_9 : decode cJ15_checkFromToIndex 9 = .ok (.iload_n 1, 1) := by decide +kernel
theorem dJ15_checkFromToIndex_10 : decode cJ15_checkFromToIndex 10 = .ok (.iload_n 2, 1) := by decide +kernel
theorem dJ15_checkFromToIndex_11 : decode cJ15_checkFromToIndex 11 = .ok (.if_icmp .le 11, 3) := by decide +kernel
theorem dJ15_checkFromToIndex_14 : decode cJ15_checkFromToIndex 14 = .ok (.aload_n 3, 1) := by decide +kernel
theorem dJ15_checkFromToIndex_15 : decode cJ15_checkFromToIndex 15 = .ok (.iload_n 0, 1) := by decide +kernel
theorem dJ15_checkFromToIndex_16 : decode cJ15_checkFromToIndex 16 = .ok (.iload_n 1, 1) := by decide +kernel
theorem dJ15_checkFromToIndex_17 : decode cJ15_checkFromToIndex 17 = .ok (.iload_n 2, 1) := by decide +kernel
theorem dJ15_checkFromToIndex_18 : decode cJ15_checkFromToIndex 18 = .ok (.invokestatic 99, 3) := by decide +kernel
theorem dJ15_checkFromToIndex_21 : decode cJ15_checkFromToIndex 21 = .ok (.athrow, 1) := by decide +kernel
theorem dJ15_checkFromToIndex_22 : decode cJ15_checkFromToIndex 22 = .ok (.iload_n 0, 1) := by decide +kernel
theorem dJ15_checkFromToIndex_23 : decode cJ15_checkFromToIndex 23 = .ok (.ireturn, 1) := by decide +kernel
theorem q540 : (Jvm.Cond.initialized "KnowHouseModel") ∈ lw_all := lw_g (lw_at lw_m1 62 rfl) rfl
theorem q541 : (Jvm.Cond.initialized "KnowHouseModel$Calls") ∈ lw_all := lw_g (lw_at lw_m1 63 rfl) rfl
theorem q4305 : (Jvm.Cond.methodLink "java/lang/String" (1062 : Nat) ({ cls := "jdk/internal/util/Preconditions", name := "checkFromToIndex", desc := "(IIILjava/util/function/BiFunction;)I" } : Jvm.MethodName)) ∈ lw_all := lw_g (lw_at lw_m16 227 rfl) rfl
theorem q4306 : (Jvm.Cond.static ({ cls := "jdk/internal/util/Preconditions", name := "checkFromToIndex", desc := "(IIILjava/util/function/BiFunction;)I" } : Jvm.MethodName)) ∈ lw_all := lw_g (lw_at lw_m16 228 rfl) rfl
theorem q4307 : (Jvm.Cond.code ({ cls := "jdk/internal/util/Preconditions", name := "checkFromToIndex", desc := "(IIILjava/util/function/BiFunction;)I" } : Jvm.MethodName) prog_135_method_12_code (4 : Nat) (Option.some Jvm.ClassFile.FieldType.int)) ∈ lw_all := lw_g (lw_at lw_m16 229 rfl) rfl
theorem q5713 : (Jvm.Cond.methodLink "KnowHouseModel" (3 : Nat) ({ cls := "java/lang/Object", name := "<init>", desc := "()V" } : Jvm.MethodName)) ∈ lw_all := lw_g (lw_at lw_m22 195 rfl) rfl
theorem q5714 : (Jvm.Cond.classLink "KnowHouseModel" (9 : Nat) "java/lang/String") ∈ lw_all := lw_g (lw_at lw_m22 196 rfl) rfl
theorem q5715 : (Jvm.Cond.arrayOver (Jvm.ClassFile.FieldType.object "java/lang/String")) ∈ lw_tbl := lw_at lw_m22 197 rfl
theorem q5728 : (Jvm.Cond.classLink "KnowHouseModel" (41 : Nat) "KnowHouseModel$Calls") ∈ lw_all := lw_g (lw_at lw_m22 210 rfl) rfl
theorem q5729 : (Jvm.Cond.arrayOver (Jvm.ClassFile.FieldType.object "KnowHouseModel$Calls")) ∈ lw_tbl := lw_at lw_m22 211 rfl
theorem q5730 : (Jvm.Cond.instantiable "KnowHouseModel$Calls" (1 : Nat)) ∈ lw_all := lw_g (lw_at lw_m22 212 rfl) rfl
theorem q5741 : (Jvm.Cond.methodLink "KnowHouseModel" (63 : Nat) ({ cls := "KnowHouseModel$Calls", name := "<init>", desc := "([Ljava/lang/String;)V" } : Jvm.MethodName)) ∈ lw_all := lw_g (lw_at lw_m22 223 rfl) rfl
theorem q5742 : (Jvm.Cond.instanceMethod ({ cls := "KnowHouseModel$Calls", name := "<init>", desc := "([Ljava/lang/String;)V" } : Jvm.MethodName)) ∈ lw_all := lw_g (lw_at lw_m22 224 rfl) rfl
theorem q5743 : (Jvm.Cond.code ({ cls := "KnowHouseModel$Calls", name := "<init>", desc := "([Ljava/lang/String;)V" } : Jvm.MethodName) prog_79_method_1_code (2 : Nat) (Option.none : Option Jvm.ClassFile.FieldType)) ∈ lw_all := lw_g (lw_at lw_m22 225 rfl) rfl
theorem q5744 : (Jvm.Cond.methodLink "KnowHouseModel$Calls" (1 : Nat) ({ cls := "java/lang/Object", name := "<init>", desc := "()V" } : Jvm.MethodName)) ∈ lw_all := lw_g (lw_at lw_m22 226 rfl) rfl
theorem q5745 : (Jvm.Cond.fieldLink "KnowHouseModel$Calls" (7 : Nat) "KnowHouseModel$Calls" "texts" "[Ljava/lang/String;") ∈ lw_all := lw_g (lw_at lw_m22 227 rfl) rfl
theorem q6856 : (Jvm.Cond.fieldLink "KnowHouseModel" (35 : Nat) "KnowHouseModel" "rooms" "[Ljava/lang/String;") ∈ lw_all := lw_g (lw_at lw_m27 138 rfl) rfl
theorem q6857 : (Jvm.Cond.fieldLink "KnowHouseModel" (342 : Nat) "KnowHouseModel" "calls" "[LKnowHouseModel$Calls;") ∈ lw_all := lw_g (lw_at lw_m27 139 rfl) rfl
theorem q6858 : (Jvm.Cond.fieldLink "KnowHouseModel" (349 : Nat) "KnowHouseModel" "names" "LKnowHouseModel$CanonNamesModel;") ∈ lw_all := lw_g (lw_at lw_m27 140 rfl) rfl
theorem q6859 : (Jvm.Cond.fieldLink "KnowHouseModel" (355 : Nat) "KnowHouseModel" "versions" "LKnowHouseModel$VersionTransModel;") ∈ lw_all := lw_g (lw_at lw_m27 141 rfl) rfl
theorem q6860 : (Jvm.Cond.fieldLink "KnowHouseModel" (361 : Nat) "KnowHouseModel" "values" "LKnowHouseModel$DatatypeValuesModel;") ∈ lw_all := lw_g (lw_at lw_m27 142 rfl) rfl
theorem q6861 : (Jvm.Cond.fieldLink "KnowHouseModel" (367 : Nat) "KnowHouseModel" "proofs" "LKnowHouseModel$ProofCheckerModel;") ∈ lw_all := lw_g (lw_at lw_m27 143 rfl) rfl
theorem q6862 : (Jvm.Cond.fieldLink "KnowHouseModel" (373 : Nat) "KnowHouseModel" "rights" "LKnowHouseModel$RightDeskModel;") ∈ lw_all := lw_g (lw_at lw_m27 144 rfl) rfl
theorem q6863 : (Jvm.Cond.fieldLink "KnowHouseModel" (379 : Nat) "KnowHouseModel" "classes" "LKnowHouseModel$ClassifySortModel;") ∈ lw_all := lw_g (lw_at lw_m27 145 rfl) rfl
theorem q6864 : (Jvm.Cond.fieldLink "KnowHouseModel" (385 : Nat) "KnowHouseModel" "facets" "LKnowHouseModel$FacetCountsModel;") ∈ lw_all := lw_g (lw_at lw_m27 146 rfl) rfl
theorem q6865 : (Jvm.Cond.fieldLink "KnowHouseModel" (391 : Nat) "KnowHouseModel" "tables" "LKnowHouseModel$VirtualRewriteModel;") ∈ lw_all := lw_g (lw_at lw_m27 147 rfl) rfl
theorem q6866 : (Jvm.Cond.fieldLink "KnowHouseModel" (397 : Nat) "KnowHouseModel" "rules" "LKnowHouseModel$RuleEngineModel;") ∈ lw_all := lw_g (lw_at lw_m27 148 rfl) rfl
theorem q6867 : (Jvm.Cond.fieldLink "KnowHouseModel" (403 : Nat) "KnowHouseModel" "rewrite" "LKnowHouseModel$QlRewriteModel;") ∈ lw_all := lw_g (lw_at lw_m27 149 rfl) rfl
theorem q6868 : (Jvm.Cond.fieldLink "KnowHouseModel" (411 : Nat) "KnowHouseModel" "disk" "LKnowHouseModel$KnowDiskModel;") ∈ lw_all := lw_g (lw_at lw_m27 150 rfl) rfl
theorem q6869 : (Jvm.Cond.fieldLink "KnowHouseModel" (414 : Nat) "KnowHouseModel" "tape" "[I") ∈ lw_all := lw_g (lw_at lw_m27 151 rfl) rfl
theorem q6870 : (Jvm.Cond.fieldLink "KnowHouseModel" (442 : Nat) "KnowHouseModel" "size" "I") ∈ lw_all := lw_g (lw_at lw_m27 152 rfl) rfl
theorem q6871 : (Jvm.Cond.fieldLink "KnowHouseModel" (418 : Nat) "KnowHouseModel" "begins" "[I") ∈ lw_all := lw_g (lw_at lw_m27 153 rfl) rfl
theorem q6872 : (Jvm.Cond.fieldLink "KnowHouseModel" (421 : Nat) "KnowHouseModel" "ends" "[I") ∈ lw_all := lw_g (lw_at lw_m27 154 rfl) rfl
theorem q6873 : (Jvm.Cond.fieldLink "KnowHouseModel" (447 : Nat) "KnowHouseModel" "words" "I") ∈ lw_all := lw_g (lw_at lw_m27 155 rfl) rfl
theorem q6874 : (Jvm.Cond.fieldLink "KnowHouseModel" (424 : Nat) "KnowHouseModel" "need" "[J") ∈ lw_all := lw_g (lw_at lw_m27 156 rfl) rfl
theorem q6875 : (Jvm.Cond.fieldLink "KnowHouseModel" (428 : Nat) "KnowHouseModel" "told" "[J") ∈ lw_all := lw_g (lw_at lw_m27 157 rfl) rfl
theorem q6876 : (Jvm.Cond.fieldLink "KnowHouseModel" (431 : Nat) "KnowHouseModel" "threw" "[Z") ∈ lw_all := lw_g (lw_at lw_m27 158 rfl) rfl
theorem q6877 : (Jvm.Cond.fieldLink "KnowHouseModel" (472 : Nat) "KnowHouseModel" "done" "I") ∈ lw_all := lw_g (lw_at lw_m27 159 rfl) rfl
theorem q6878 : (Jvm.Cond.fieldLink "KnowHouseModel" (435 : Nat) "KnowHouseModel" "wrong" "I") ∈ lw_all := lw_g (lw_at lw_m27 160 rfl) rfl
theorem q6879 : (Jvm.Cond.fieldLink "KnowHouseModel" (494 : Nat) "KnowHouseModel" "throwing" "Z") ∈ lw_all := lw_g (lw_at lw_m27 161 rfl) rfl
theorem q6880 : (Jvm.Cond.fieldLink "KnowHouseModel" (439 : Nat) "KnowHouseModel" "ledger" "[J") ∈ lw_all := lw_g (lw_at lw_m27 162 rfl) rfl
theorem q6881 : (Jvm.Cond.fieldLink "KnowHouseModel" (515 : Nat) "KnowHouseModel" "entries" "I") ∈ lw_all := lw_g (lw_at lw_m27 163 rfl) rfl
theorem q6939 : (Jvm.Cond.constantLong "KnowHouseModel" (445 : Nat) (255 : Int64)) ∈ lw_all := lw_g (lw_at lw_m27 221 rfl) rfl
theorem q6956 : (Jvm.Cond.methodLink "KnowHouseModel" (462 : Nat) ({ cls := "KnowHouseModel", name := "isWord", desc := "(ILjava/lang/String;)Z" } : Jvm.MethodName)) ∈ lw_all := lw_g (lw_at lw_m27 238 rfl) rfl
theorem q6958 : (Jvm.Cond.instanceMethod ({ cls := "KnowHouseModel", name := "isWord", desc := "(ILjava/lang/String;)Z" } : Jvm.MethodName)) ∈ lw_all := lw_g (lw_at lw_m28 0 rfl) rfl
theorem q6959 : (Jvm.Cond.code ({ cls := "KnowHouseModel", name := "isWord", desc := "(ILjava/lang/String;)Z" } : Jvm.MethodName) prog_78_method_5_code (7 : Nat) (Option.some Jvm.ClassFile.FieldType.boolean)) ∈ lw_all := lw_g (lw_at lw_m28 1 rfl) rfl
theorem q6960 : (Jvm.Cond.methodLink "KnowHouseModel" (450 : Nat) ({ cls := "java/lang/String", name := "indexOf", desc := "(I)I" } : Jvm.MethodName)) ∈ lw_all := lw_g (lw_at lw_m28 2 rfl) rfl
theorem q6961 : (Jvm.Cond.methodLink "KnowHouseModel" (454 : Nat) ({ cls := "java/lang/String", name := "length", desc := "()I" } : Jvm.MethodName)) ∈ lw_all := lw_g (lw_at lw_m28 3 rfl) rfl
theorem q6962 : (Jvm.Cond.methodLink "KnowHouseModel" (458 : Nat) ({ cls := "java/lang/String", name := "charAt", desc := "(I)C" } : Jvm.MethodName)) ∈ lw_all := lw_g (lw_at lw_m28 4 rfl) rfl
theorem q7187 : (Jvm.Cond.constantLong "KnowHouseModel" (466 : Nat) (-9223372036854775808 : Int64)) ∈ lw_all := lw_g (lw_at lw_m28 229 rfl) rfl
theorem q7188 : (Jvm.Cond.constantLong "KnowHouseModel" (468 : Nat) (10 : Int64)) ∈ lw_all := lw_g (lw_at lw_m28 230 rfl) rfl
theorem q7189 : (Jvm.Cond.constantLong "KnowHouseModel" (470 : Nat) (48 : Int64)) ∈ lw_all := lw_g (lw_at lw_m28 231 rfl) rfl
theorem q7198 : (Jvm.Cond.methodLink "KnowHouseModel" (654 : Nat) ({ cls := "KnowHouseModel", name := "houseCall", desc := "(I)J" } : Jvm.MethodName)) ∈ lw_all := lw_g (lw_at lw_m29 0 rfl) rfl
theorem q7200 : (Jvm.Cond.instanceMethod ({ cls := "KnowHouseModel", name := "houseCall", desc := "(I)J" } : Jvm.MethodName)) ∈ lw_all := lw_g (lw_at lw_m29 2 rfl) rfl
theorem q7201 : (Jvm.Cond.code ({ cls := "KnowHouseModel", name := "houseCall", desc := "(I)J" } : Jvm.MethodName) prog_78_method_34_code (4 : Nat) (Option.some Jvm.ClassFile.FieldType.long)) ∈ lw_all := lw_g (lw_at lw_m29 3 rfl) rfl
theorem q7202 : (Jvm.Cond.methodLink "KnowHouseModel" (690 : Nat) ({ cls := "KnowHouseModel", name := "say", desc := "(IIZ)J" } : Jvm.MethodName)) ∈ lw_all := lw_g (lw_at lw_m29 4 rfl) rfl
theorem q7204 : (Jvm.Cond.instanceMethod ({ cls := "KnowHouseModel", name := "say", desc := "(IIZ)J" } : Jvm.MethodName)) ∈ lw_all := lw_g (lw_at lw_m29 6 rfl) rfl
theorem q7205 : (Jvm.Cond.code ({ cls := "KnowHouseModel", name := "say", desc := "(IIZ)J" } : Jvm.MethodName) prog_78_method_22_code (8 : Nat) (Option.some Jvm.ClassFile.FieldType.long)) ∈ lw_all := lw_g (lw_at lw_m29 7 rfl) rfl
theorem q7206 : (Jvm.Cond.constantLong "KnowHouseModel" (506 : Nat) (-1 : Int64)) ∈ lw_all := lw_g (lw_at lw_m29 8 rfl) rfl
theorem q7207 : (Jvm.Cond.methodLink "KnowHouseModel" (518 : Nat) ({ cls := "KnowHouseModel$VersionTransModel", name := "latest", desc := "()I" } : Jvm.MethodName)) ∈ lw_all := lw_g (lw_at lw_m29 9 rfl) rfl
theorem q7208 : (Jvm.Cond.instanceMethod ({ cls := "KnowHouseModel$VersionTransModel", name := "latest", desc := "()I" } : Jvm.MethodName)) ∈ lw_all := lw_g (lw_at lw_m29 10 rfl) rfl
theorem q7209 : (Jvm.Cond.selects "KnowHouseModel$VersionTransModel" ({ cls := "KnowHouseModel$VersionTransModel", name := "latest", desc := "()I" } : Jvm.MethodName) ({ cls := "KnowHouseModel$VersionTransModel", name := "latest", desc := "()I" } : Jvm.MethodName)) ∈ lw_all := lw_g (lw_at lw_m29 11 rfl) rfl
theorem q7210 : (Jvm.Cond.code ({ cls := "KnowHouseModel$VersionTransModel", name := "latest", desc := "()I" } : Jvm.MethodName) prog_89_method_13_code (1 : Nat) (Option.some Jvm.ClassFile.FieldType.int)) ∈ lw_all := lw_g (lw_at lw_m29 12 rfl) rfl
theorem q7211 : (Jvm.Cond.methodLink "KnowHouseModel" (526 : Nat) ({ cls := "KnowHouseModel", name := "head", desc := "(I)I" } : Jvm.MethodName)) ∈ lw_all := lw_g (lw_at lw_m29 13 rfl) rfl
theorem q7212 : (Jvm.Cond.static ({ cls := "KnowHouseModel", name := "head", desc := "(I)I" } : Jvm.MethodName)) ∈ lw_all := lw_g (lw_at lw_m29 14 rfl) rfl
theorem q7213 : (Jvm.Cond.code ({ cls := "KnowHouseModel", name := "head", desc := "(I)I" } : Jvm.MethodName) prog_78_method_18_code (1 : Nat) (Option.some Jvm.ClassFile.FieldType.int)) ∈ lw_all := lw_g (lw_at lw_m29 15 rfl) rfl
theorem q7214 : (Jvm.Cond.methodLink "KnowHouseModel" (529 : Nat) ({ cls := "KnowHouseModel", name := "value", desc := "(I)I" } : Jvm.MethodName)) ∈ lw_all := lw_g (lw_at lw_m29 16 rfl) rfl
theorem q7215 : (Jvm.Cond.static ({ cls := "KnowHouseModel", name := "value", desc := "(I)I" } : Jvm.MethodName)) ∈ lw_all := lw_g (lw_at lw_m29 17 rfl) rfl
theorem q7216 : (Jvm.Cond.code ({ cls := "KnowHouseModel", name := "value", desc := "(I)I" } : Jvm.MethodName) prog_78_method_19_code (1 : Nat) (Option.some Jvm.ClassFile.FieldType.int)) ∈ lw_all := lw_g (lw_at lw_m29 18 rfl) rfl
theorem q7217 : (Jvm.Cond.methodLink "KnowHouseModel" (545 : Nat) ({ cls := "KnowHouseModel$RightDeskModel", name := "may", desc := "(IIIIII)I" } : Jvm.MethodName)) ∈ lw_all := lw_g (lw_at lw_m29 19 rfl) rfl
theorem q7218 : (Jvm.Cond.instanceMethod ({ cls := "KnowHouseModel$RightDeskModel", name := "may", desc := "(IIIIII)I" } : Jvm.MethodName)) ∈ lw_all := lw_g (lw_at lw_m29 20 rfl) rfl
theorem q7219 : (Jvm.Cond.selects "KnowHouseModel$RightDeskModel" ({ cls := "KnowHouseModel$RightDeskModel", name := "may", desc := "(IIIIII)I" } : Jvm.MethodName) ({ cls := "KnowHouseModel$RightDeskModel", name := "may", desc := "(IIIIII)I" } : Jvm.MethodName)) ∈ lw_all := lw_g (lw_at lw_m29 21 rfl) rfl
theorem q7220 : (Jvm.Cond.code ({ cls := "KnowHouseModel$RightDeskModel", name := "may", desc := "(IIIIII)I" } : Jvm.MethodName) prog_87_method_14_code (8 : Nat) (Option.some Jvm.ClassFile.FieldType.int)) ∈ lw_all := lw_g (lw_at lw_m29 22 rfl) rfl
theorem q7242 : (Jvm.Cond.constantLong "KnowHouseModel" (549 : Nat) (-2 : Int64)) ∈ lw_all := lw_g (lw_at lw_m29 44 rfl) rfl
theorem q7243 : (Jvm.Cond.methodLink "KnowHouseModel" (551 : Nat) ({ cls := "KnowHouseModel$VersionTransModel", name := "begin", desc := "()I" } : Jvm.MethodName)) ∈ lw_all := lw_g (lw_at lw_m29 45 rfl) rfl
theorem q7244 : (Jvm.Cond.instanceMethod ({ cls := "KnowHouseModel$VersionTransModel", name := "begin", desc := "()I" } : Jvm.MethodName)) ∈ lw_all := lw_g (lw_at lw_m29 46 rfl) rfl
theorem q7245 : (Jvm.Cond.selects "KnowHouseModel$VersionTransModel" ({ cls := "KnowHouseModel$VersionTransModel", name := "begin", desc := "()I" } : Jvm.MethodName) ({ cls := "KnowHouseModel$VersionTransModel", name := "begin", desc := "()I" } : Jvm.MethodName)) ∈ lw_all := lw_g (lw_at lw_m29 47 rfl) rfl
theorem q7246 : (Jvm.Cond.code ({ cls := "KnowHouseModel$VersionTransModel", name := "begin", desc := "()I" } : Jvm.MethodName) prog_89_method_20_code (1 : Nat) (Option.some Jvm.ClassFile.FieldType.int)) ∈ lw_all := lw_g (lw_at lw_m29 48 rfl) rfl
theorem q7251 : (Jvm.Cond.methodLink "KnowHouseModel" (554 : Nat) ({ cls := "KnowHouseModel$VersionTransModel", name := "thrown", desc := "()I" } : Jvm.MethodName)) ∈ lw_all := lw_g (lw_at lw_m29 53 rfl) rfl
theorem q7252 : (Jvm.Cond.instanceMethod ({ cls := "KnowHouseModel$VersionTransModel", name := "thrown", desc := "()I" } : Jvm.MethodName)) ∈ lw_all := lw_g (lw_at lw_m29 54 rfl) rfl
theorem q7253 : (Jvm.Cond.selects "KnowHouseModel$VersionTransModel" ({ cls := "KnowHouseModel$VersionTransModel", name := "thrown", desc := "()I" } : Jvm.MethodName) ({ cls := "KnowHouseModel$VersionTransModel", name := "thrown", desc := "()I" } : Jvm.MethodName)) ∈ lw_all := lw_g (lw_at lw_m29 55 rfl) rfl
theorem q7254 : (Jvm.Cond.code ({ cls := "KnowHouseModel$VersionTransModel", name := "thrown", desc := "()I" } : Jvm.MethodName) prog_89_method_1_code (1 : Nat) (Option.some Jvm.ClassFile.FieldType.int)) ∈ lw_all := lw_g (lw_at lw_m29 56 rfl) rfl
theorem q7255 : (Jvm.Cond.constantLong "KnowHouseModel" (557 : Nat) (-3 : Int64)) ∈ lw_all := lw_g (lw_at lw_m29 57 rfl) rfl
theorem q7256 : (Jvm.Cond.methodLink "KnowHouseModel" (559 : Nat) ({ cls := "KnowHouseModel$VersionTransModel", name := "put", desc := "(IIZ)I" } : Jvm.MethodName)) ∈ lw_all := lw_g (lw_at lw_m29 58 rfl) rfl
theorem q7257 : (Jvm.Cond.instanceMethod ({ cls := "KnowHouseModel$VersionTransModel", name := "put", desc := "(IIZ)I" } : Jvm.MethodName)) ∈ lw_all := lw_g (lw_at lw_m29 59 rfl) rfl
theorem q7258 : (Jvm.Cond.selects "KnowHouseModel$VersionTransModel" ({ cls := "KnowHouseModel$VersionTransModel", name := "put", desc := "(IIZ)I" } : Jvm.MethodName) ({ cls := "KnowHouseModel$VersionTransModel", name := "put", desc := "(IIZ)I" } : Jvm.MethodName)) ∈ lw_all := lw_g (lw_at lw_m29 60 rfl) rfl
theorem q7259 : (Jvm.Cond.code ({ cls := "KnowHouseModel$VersionTransModel", name := "put", desc := "(IIZ)I" } : Jvm.MethodName) prog_89_method_27_code (6 : Nat) (Option.some Jvm.ClassFile.FieldType.int)) ∈ lw_all := lw_g (lw_at lw_m29 61 rfl) rfl
theorem q7299 : (Jvm.Cond.methodLink "KnowHouseModel" (563 : Nat) ({ cls := "KnowHouseModel$VersionTransModel", name := "abort", desc := "(I)I" } : Jvm.MethodName)) ∈ lw_all := lw_g (lw_at lw_m29 101 rfl) rfl
theorem q7300 : (Jvm.Cond.instanceMethod ({ cls := "KnowHouseModel$VersionTransModel", name := "abort", desc := "(I)I" } : Jvm.MethodName)) ∈ lw_all := lw_g (lw_at lw_m29 102 rfl) rfl
theorem q7301 : (Jvm.Cond.selects "KnowHouseModel$VersionTransModel" ({ cls := "KnowHouseModel$VersionTransModel", name := "abort", desc := "(I)I" } : Jvm.MethodName) ({ cls := "KnowHouseModel$VersionTransModel", name := "abort", desc := "(I)I" } : Jvm.MethodName)) ∈ lw_all := lw_g (lw_at lw_m29 103 rfl) rfl
theorem q7302 : (Jvm.Cond.code ({ cls := "KnowHouseModel$VersionTransModel", name := "abort", desc := "(I)I" } : Jvm.MethodName) prog_89_method_34_code (3 : Nat) (Option.some Jvm.ClassFile.FieldType.int)) ∈ lw_all := lw_g (lw_at lw_m29 104 rfl) rfl
theorem q7311 : (Jvm.Cond.constantLong "KnowHouseModel" (566 : Nat) (-4 : Int64)) ∈ lw_all := lw_g (lw_at lw_m29 113 rfl) rfl
theorem q7312 : (Jvm.Cond.methodLink "KnowHouseModel" (568 : Nat) ({ cls := "KnowHouseModel$VersionTransModel", name := "commit", desc := "(I)I" } : Jvm.MethodName)) ∈ lw_all := lw_g (lw_at lw_m29 114 rfl) rfl
theorem q7313 : (Jvm.Cond.instanceMethod ({ cls := "KnowHouseModel$VersionTransModel", name := "commit", desc := "(I)I" } : Jvm.MethodName)) ∈ lw_all := lw_g (lw_at lw_m29 115 rfl) rfl
theorem q7314 : (Jvm.Cond.selects "KnowHouseModel$VersionTransModel" ({ cls := "KnowHouseModel$VersionTransModel", name := "commit", desc := "(I)I" } : Jvm.MethodName) ({ cls := "KnowHouseModel$VersionTransModel", name := "commit", desc := "(I)I" } : Jvm.MethodName)) ∈ lw_all := lw_g (lw_at lw_m29 116 rfl) rfl
theorem q7315 : (Jvm.Cond.code ({ cls := "KnowHouseModel$VersionTransModel", name := "commit", desc := "(I)I" } : Jvm.MethodName) prog_89_method_36_code (8 : Nat) (Option.some Jvm.ClassFile.FieldType.int)) ∈ lw_all := lw_g (lw_at lw_m29 117 rfl) rfl
theorem q7328 : (Jvm.Cond.methodLink "KnowHouseModel" (571 : Nat) ({ cls := "KnowHouseModel", name := "lay", desc := "(IZ)I" } : Jvm.MethodName)) ∈ lw_all := lw_g (lw_at lw_m29 130 rfl) rfl
theorem q7330 : (Jvm.Cond.instanceMethod ({ cls := "KnowHouseModel", name := "lay", desc := "(IZ)I" } : Jvm.MethodName)) ∈ lw_all := lw_g (lw_at lw_m29 132 rfl) rfl
theorem q7331 : (Jvm.Cond.code ({ cls := "KnowHouseModel", name := "lay", desc := "(IZ)I" } : Jvm.MethodName) prog_78_method_21_code (5 : Nat) (Option.some Jvm.ClassFile.FieldType.int)) ∈ lw_all := lw_g (lw_at lw_m29 133 rfl) rfl
theorem q7332 : (Jvm.Cond.methodLink "KnowHouseModel" (523 : Nat) ({ cls := "KnowHouseModel", name := "thing", desc := "(I)I" } : Jvm.MethodName)) ∈ lw_all := lw_g (lw_at lw_m29 134 rfl) rfl
theorem q7333 : (Jvm.Cond.static ({ cls := "KnowHouseModel", name := "thing", desc := "(I)I" } : Jvm.MethodName)) ∈ lw_all := lw_g (lw_at lw_m29 135 rfl) rfl
theorem q7334 : (Jvm.Cond.code ({ cls := "KnowHouseModel", name := "thing", desc := "(I)I" } : Jvm.MethodName) prog_78_method_17_code (1 : Nat) (Option.some Jvm.ClassFile.FieldType.int)) ∈ lw_all := lw_g (lw_at lw_m29 136 rfl) rfl
theorem q7335 : (Jvm.Cond.methodLink "KnowHouseModel" (532 : Nat) ({ cls := "KnowHouseModel$FacetCountsModel", name := "row", desc := "(III)I" } : Jvm.MethodName)) ∈ lw_all := lw_g (lw_at lw_m29 137 rfl) rfl
theorem q7336 : (Jvm.Cond.instanceMethod ({ cls := "KnowHouseModel$FacetCountsModel", name := "row", desc := "(III)I" } : Jvm.MethodName)) ∈ lw_all := lw_g (lw_at lw_m29 138 rfl) rfl
theorem q7337 : (Jvm.Cond.selects "KnowHouseModel$FacetCountsModel" ({ cls := "KnowHouseModel$FacetCountsModel", name := "row", desc := "(III)I" } : Jvm.MethodName) ({ cls := "KnowHouseModel$FacetCountsModel", name := "row", desc := "(III)I" } : Jvm.MethodName)) ∈ lw_all := lw_g (lw_at lw_m29 139 rfl) rfl
theorem q7338 : (Jvm.Cond.code ({ cls := "KnowHouseModel$FacetCountsModel", name := "row", desc := "(III)I" } : Jvm.MethodName) prog_83_method_7_code (4 : Nat) (Option.some Jvm.ClassFile.FieldType.int)) ∈ lw_all := lw_g (lw_at lw_m29 140 rfl) rfl
theorem q7352 : (Jvm.Cond.methodLink "KnowHouseModel" (536 : Nat) ({ cls := "KnowHouseModel$FacetCountsModel", name := "drop", desc := "(III)I" } : Jvm.MethodName)) ∈ lw_all := lw_g (lw_at lw_m29 154 rfl) rfl
theorem q7353 : (Jvm.Cond.instanceMethod ({ cls := "KnowHouseModel$FacetCountsModel", name := "drop", desc := "(III)I" } : Jvm.MethodName)) ∈ lw_all := lw_g (lw_at lw_m29 155 rfl) rfl
theorem q7354 : (Jvm.Cond.selects "KnowHouseModel$FacetCountsModel" ({ cls := "KnowHouseModel$FacetCountsModel", name := "drop", desc := "(III)I" } : Jvm.MethodName) ({ cls := "KnowHouseModel$FacetCountsModel", name := "drop", desc := "(III)I" } : Jvm.MethodName)) ∈ lw_all := lw_g (lw_at lw_m29 156 rfl) rfl
theorem q7355 : (Jvm.Cond.code ({ cls := "KnowHouseModel$FacetCountsModel", name := "drop", desc := "(III)I" } : Jvm.MethodName) prog_83_method_8_code (5 : Nat) (Option.some Jvm.ClassFile.FieldType.int)) ∈ lw_all := lw_g (lw_at lw_m29 157 rfl) rfl
theorem q7356 : (Jvm.Cond.methodLink "KnowHouseModel" (539 : Nat) ({ cls := "KnowHouseModel$RuleEngineModel", name := "fact", desc := "(III)I" } : Jvm.MethodName)) ∈ lw_all := lw_g (lw_at lw_m29 158 rfl) rfl
theorem q7357 : (Jvm.Cond.instanceMethod ({ cls := "KnowHouseModel$RuleEngineModel", name := "fact", desc := "(III)I" } : Jvm.MethodName)) ∈ lw_all := lw_g (lw_at lw_m29 159 rfl) rfl
theorem q7358 : (Jvm.Cond.selects "KnowHouseModel$RuleEngineModel" ({ cls := "KnowHouseModel$RuleEngineModel", name := "fact", desc := "(III)I" } : Jvm.MethodName) ({ cls := "KnowHouseModel$RuleEngineModel", name := "fact", desc := "(III)I" } : Jvm.MethodName)) ∈ lw_all := lw_g (lw_at lw_m29 160 rfl) rfl
theorem q7359 : (Jvm.Cond.code ({ cls := "KnowHouseModel$RuleEngineModel", name := "fact", desc := "(III)I" } : Jvm.MethodName) prog_88_method_7_code (4 : Nat) (Option.some Jvm.ClassFile.FieldType.int)) ∈ lw_all := lw_g (lw_at lw_m29 161 rfl) rfl
theorem q7372 : (Jvm.Cond.methodLink "KnowHouseModel" (542 : Nat) ({ cls := "KnowHouseModel$RuleEngineModel", name := "remove", desc := "(III)I" } : Jvm.MethodName)) ∈ lw_all := lw_g (lw_at lw_m29 174 rfl) rfl
theorem q7373 : (Jvm.Cond.instanceMethod ({ cls := "KnowHouseModel$RuleEngineModel", name := "remove", desc := "(III)I" } : Jvm.MethodName)) ∈ lw_all := lw_g (lw_at lw_m29 175 rfl) rfl
theorem q7374 : (Jvm.Cond.selects "KnowHouseModel$RuleEngineModel" ({ cls := "KnowHouseModel$RuleEngineModel", name := "remove", desc := "(III)I" } : Jvm.MethodName) ({ cls := "KnowHouseModel$RuleEngineModel", name := "remove", desc := "(III)I" } : Jvm.MethodName)) ∈ lw_all := lw_g (lw_at lw_m29 176 rfl) rfl
theorem q7375 : (Jvm.Cond.code ({ cls := "KnowHouseModel$RuleEngineModel", name := "remove", desc := "(III)I" } : Jvm.MethodName) prog_88_method_8_code (4 : Nat) (Option.some Jvm.ClassFile.FieldType.int)) ∈ lw_all := lw_g (lw_at lw_m29 177 rfl) rfl
theorem q7376 : (Jvm.Cond.methodLink "KnowHouseModel" (575 : Nat) ({ cls := "KnowHouseModel", name := "enter", desc := "(JJJ)V" } : Jvm.MethodName)) ∈ lw_all := lw_g (lw_at lw_m29 178 rfl) rfl
theorem q7378 : (Jvm.Cond.instanceMethod ({ cls := "KnowHouseModel", name := "enter", desc := "(JJJ)V" } : Jvm.MethodName)) ∈ lw_all := lw_g (lw_at lw_m29 180 rfl) rfl
theorem q7379 : (Jvm.Cond.code ({ cls := "KnowHouseModel", name := "enter", desc := "(JJJ)V" } : Jvm.MethodName) prog_78_method_16_code (7 : Nat) (Option.none : Option Jvm.ClassFile.FieldType)) ∈ lw_all := lw_g (lw_at lw_m29 181 rfl) rfl
theorem q7380 : (Jvm.Cond.methodLink "KnowHouseModel" (694 : Nat) ({ cls := "KnowHouseModel", name := "level", desc := "()J" } : Jvm.MethodName)) ∈ lw_all := lw_g (lw_at lw_m29 182 rfl) rfl
theorem q7382 : (Jvm.Cond.instanceMethod ({ cls := "KnowHouseModel", name := "level", desc := "()J" } : Jvm.MethodName)) ∈ lw_all := lw_g (lw_at lw_m29 184 rfl) rfl
theorem q7383 : (Jvm.Cond.code ({ cls := "KnowHouseModel", name := "level", desc := "()J" } : Jvm.MethodName) prog_78_method_23_code (3 : Nat) (Option.some Jvm.ClassFile.FieldType.long)) ∈ lw_all := lw_g (lw_at lw_m29 185 rfl) rfl
theorem q7384 : (Jvm.Cond.methodLink "KnowHouseModel" (579 : Nat) ({ cls := "KnowHouseModel", name := "isThere", desc := "(I)Z" } : Jvm.MethodName)) ∈ lw_all := lw_g (lw_at lw_m29 186 rfl) rfl
theorem q7386 : (Jvm.Cond.instanceMethod ({ cls := "KnowHouseModel", name := "isThere", desc := "(I)Z" } : Jvm.MethodName)) ∈ lw_all := lw_g (lw_at lw_m29 188 rfl) rfl
theorem q7387 : (Jvm.Cond.code ({ cls := "KnowHouseModel", name := "isThere", desc := "(I)Z" } : Jvm.MethodName) prog_78_method_20_code (2 : Nat) (Option.some Jvm.ClassFile.FieldType.boolean)) ∈ lw_all := lw_g (lw_at lw_m29 189 rfl) rfl
theorem q7388 : (Jvm.Cond.methodLink "KnowHouseModel" (521 : Nat) ({ cls := "KnowHouseModel$VersionTransModel", name := "told", desc := "(II)Z" } : Jvm.MethodName)) ∈ lw_all := lw_g (lw_at lw_m29 190 rfl) rfl
theorem q7389 : (Jvm.Cond.instanceMethod ({ cls := "KnowHouseModel$VersionTransModel", name := "told", desc := "(II)Z" } : Jvm.MethodName)) ∈ lw_all := lw_g (lw_at lw_m29 191 rfl) rfl
theorem q7390 : (Jvm.Cond.selects "KnowHouseModel$VersionTransModel" ({ cls := "KnowHouseModel$VersionTransModel", name := "told", desc := "(II)Z" } : Jvm.MethodName) ({ cls := "KnowHouseModel$VersionTransModel", name := "told", desc := "(II)Z" } : Jvm.MethodName)) ∈ lw_all := lw_g (lw_at lw_m29 192 rfl) rfl
theorem q7391 : (Jvm.Cond.code ({ cls := "KnowHouseModel$VersionTransModel", name := "told", desc := "(II)Z" } : Jvm.MethodName) prog_89_method_15_code (3 : Nat) (Option.some Jvm.ClassFile.FieldType.boolean)) ∈ lw_all := lw_g (lw_at lw_m29 193 rfl) rfl
theorem q7400 : (Jvm.Cond.methodLink "KnowHouseModel" (698 : Nat) ({ cls := "KnowHouseModel", name := "publish", desc := "()J" } : Jvm.MethodName)) ∈ lw_all := lw_g (lw_at lw_m29 202 rfl) rfl
theorem q7402 : (Jvm.Cond.instanceMethod ({ cls := "KnowHouseModel", name := "publish", desc := "()J" } : Jvm.MethodName)) ∈ lw_all := lw_g (lw_at lw_m29 204 rfl) rfl
theorem q7403 : (Jvm.Cond.code ({ cls := "KnowHouseModel", name := "publish", desc := "()J" } : Jvm.MethodName) prog_78_method_24_code (4 : Nat) (Option.some Jvm.ClassFile.FieldType.long)) ∈ lw_all := lw_g (lw_at lw_m29 205 rfl) rfl
theorem q7404 : (Jvm.Cond.methodLink "KnowHouseModel" (583 : Nat) ({ cls := "KnowHouseModel$CanonNamesModel", name := "keep", desc := "()I" } : Jvm.MethodName)) ∈ lw_all := lw_g (lw_at lw_m29 206 rfl) rfl
theorem q7405 : (Jvm.Cond.instanceMethod ({ cls := "KnowHouseModel$CanonNamesModel", name := "keep", desc := "()I" } : Jvm.MethodName)) ∈ lw_all := lw_g (lw_at lw_m29 207 rfl) rfl
theorem q7406 : (Jvm.Cond.selects "KnowHouseModel$CanonNamesModel" ({ cls := "KnowHouseModel$CanonNamesModel", name := "keep", desc := "()I" } : Jvm.MethodName) ({ cls := "KnowHouseModel$CanonNamesModel", name := "keep", desc := "()I" } : Jvm.MethodName)) ∈ lw_all := lw_g (lw_at lw_m29 208 rfl) rfl
theorem q7407 : (Jvm.Cond.code ({ cls := "KnowHouseModel$CanonNamesModel", name := "keep", desc := "()I" } : Jvm.MethodName) prog_80_method_39_code (2 : Nat) (Option.some Jvm.ClassFile.FieldType.int)) ∈ lw_all := lw_g (lw_at lw_m29 209 rfl) rfl
theorem q7408 : (Jvm.Cond.methodLink "KnowHouseModel" (586 : Nat) ({ cls := "KnowHouseModel$CanonNamesModel", name := "blank", desc := "()I" } : Jvm.MethodName)) ∈ lw_all := lw_g (lw_at lw_m29 210 rfl) rfl
theorem q7409 : (Jvm.Cond.instanceMethod ({ cls := "KnowHouseModel$CanonNamesModel", name := "blank", desc := "()I" } : Jvm.MethodName)) ∈ lw_all := lw_g (lw_at lw_m29 211 rfl) rfl
theorem q7410 : (Jvm.Cond.selects "KnowHouseModel$CanonNamesModel" ({ cls := "KnowHouseModel$CanonNamesModel", name := "blank", desc := "()I" } : Jvm.MethodName) ({ cls := "KnowHouseModel$CanonNamesModel", name := "blank", desc := "()I" } : Jvm.MethodName)) ∈ lw_all := lw_g (lw_at lw_m29 212 rfl) rfl
theorem q7411 : (Jvm.Cond.code ({ cls := "KnowHouseModel$CanonNamesModel", name := "blank", desc := "()I" } : Jvm.MethodName) prog_80_method_10_code (1 : Nat) (Option.some Jvm.ClassFile.FieldType.int)) ∈ lw_all := lw_g (lw_at lw_m29 213 rfl) rfl
theorem q7412 : (Jvm.Cond.methodLink "KnowHouseModel" (589 : Nat) ({ cls := "KnowHouseModel$CanonNamesModel", name := "triple", desc := "(III)I" } : Jvm.MethodName)) ∈ lw_all := lw_g (lw_at lw_m29 214 rfl) rfl
theorem q7413 : (Jvm.Cond.instanceMethod ({ cls := "KnowHouseModel$CanonNamesModel", name := "triple", desc := "(III)I" } : Jvm.MethodName)) ∈ lw_all := lw_g (lw_at lw_m29 215 rfl) rfl
theorem q7414 : (Jvm.Cond.selects "KnowHouseModel$CanonNamesModel" ({ cls := "KnowHouseModel$CanonNamesModel", name := "triple", desc := "(III)I" } : Jvm.MethodName) ({ cls := "KnowHouseModel$CanonNamesModel", name := "triple", desc := "(III)I" } : Jvm.MethodName)) ∈ lw_all := lw_g (lw_at lw_m29 216 rfl) rfl
theorem q7415 : (Jvm.Cond.code ({ cls := "KnowHouseModel$CanonNamesModel", name := "triple", desc := "(III)I" } : Jvm.MethodName) prog_80_method_13_code (5 : Nat) (Option.some Jvm.ClassFile.FieldType.int)) ∈ lw_all := lw_g (lw_at lw_m29 217 rfl) rfl
theorem q7427 : (Jvm.Cond.constantLong "KnowHouseModel" (592 : Nat) (5000 : Int64)) ∈ lw_all := lw_g (lw_at lw_m29 229 rfl) rfl
theorem q7428 : (Jvm.Cond.methodLink "KnowHouseModel" (594 : Nat) ({ cls := "KnowHouseModel$CanonNamesModel", name := "name", desc := "(J)I" } : Jvm.MethodName)) ∈ lw_all := lw_g (lw_at lw_m29 230 rfl) rfl
theorem q7429 : (Jvm.Cond.instanceMethod ({ cls := "KnowHouseModel$CanonNamesModel", name := "name", desc := "(J)I" } : Jvm.MethodName)) ∈ lw_all := lw_g (lw_at lw_m29 231 rfl) rfl
theorem q7430 : (Jvm.Cond.selects "KnowHouseModel$CanonNamesModel" ({ cls := "KnowHouseModel$CanonNamesModel", name := "name", desc := "(J)I" } : Jvm.MethodName) ({ cls := "KnowHouseModel$CanonNamesModel", name := "name", desc := "(J)I" } : Jvm.MethodName)) ∈ lw_all := lw_g (lw_at lw_m29 232 rfl) rfl
theorem q7431 : (Jvm.Cond.code ({ cls := "KnowHouseModel$CanonNamesModel", name := "name", desc := "(J)I" } : Jvm.MethodName) prog_80_method_34_code (7 : Nat) (Option.some Jvm.ClassFile.FieldType.int)) ∈ lw_all := lw_g (lw_at lw_m29 233 rfl) rfl
theorem q7507 : (Jvm.Cond.methodLink "KnowHouseModel" (598 : Nat) ({ cls := "KnowHouseModel$CanonNamesModel", name := "isomorphic", desc := "(I)I" } : Jvm.MethodName)) ∈ lw_all := lw_g (lw_at lw_m30 69 rfl) rfl
theorem q7508 : (Jvm.Cond.instanceMethod ({ cls := "KnowHouseModel$CanonNamesModel", name := "isomorphic", desc := "(I)I" } : Jvm.MethodName)) ∈ lw_all := lw_g (lw_at lw_m30 70 rfl) rfl
theorem q7509 : (Jvm.Cond.selects "KnowHouseModel$CanonNamesModel" ({ cls := "KnowHouseModel$CanonNamesModel", name := "isomorphic", desc := "(I)I" } : Jvm.MethodName) ({ cls := "KnowHouseModel$CanonNamesModel", name := "isomorphic", desc := "(I)I" } : Jvm.MethodName)) ∈ lw_all := lw_g (lw_at lw_m30 71 rfl) rfl
theorem q7510 : (Jvm.Cond.code ({ cls := "KnowHouseModel$CanonNamesModel", name := "isomorphic", desc := "(I)I" } : Jvm.MethodName) prog_80_method_43_code (3 : Nat) (Option.some Jvm.ClassFile.FieldType.int)) ∈ lw_all := lw_g (lw_at lw_m30 72 rfl) rfl
theorem q7523 : (Jvm.Cond.methodLink "KnowHouseModel" (701 : Nat) ({ cls := "KnowHouseModel", name := "under", desc := "(II)J" } : Jvm.MethodName)) ∈ lw_all := lw_g (lw_at lw_m30 85 rfl) rfl
theorem q7525 : (Jvm.Cond.instanceMethod ({ cls := "KnowHouseModel", name := "under", desc := "(II)J" } : Jvm.MethodName)) ∈ lw_all := lw_g (lw_at lw_m30 87 rfl) rfl
theorem q7526 : (Jvm.Cond.code ({ cls := "KnowHouseModel", name := "under", desc := "(II)J" } : Jvm.MethodName) prog_78_method_25_code (6 : Nat) (Option.some Jvm.ClassFile.FieldType.long)) ∈ lw_all := lw_g (lw_at lw_m30 88 rfl) rfl
theorem q7527 : (Jvm.Cond.methodLink "KnowHouseModel" (601 : Nat) ({ cls := "KnowHouseModel$ClassifySortModel", name := "axiom", desc := "(III)I" } : Jvm.MethodName)) ∈ lw_all := lw_g (lw_at lw_m30 89 rfl) rfl
theorem q7528 : (Jvm.Cond.instanceMethod ({ cls := "KnowHouseModel$ClassifySortModel", name := "axiom", desc := "(III)I" } : Jvm.MethodName)) ∈ lw_all := lw_g (lw_at lw_m30 90 rfl) rfl
theorem q7529 : (Jvm.Cond.selects "KnowHouseModel$ClassifySortModel" ({ cls := "KnowHouseModel$ClassifySortModel", name := "axiom", desc := "(III)I" } : Jvm.MethodName) ({ cls := "KnowHouseModel$ClassifySortModel", name := "axiom", desc := "(III)I" } : Jvm.MethodName)) ∈ lw_all := lw_g (lw_at lw_m30 91 rfl) rfl
theorem q7530 : (Jvm.Cond.code ({ cls := "KnowHouseModel$ClassifySortModel", name := "axiom", desc := "(III)I" } : Jvm.MethodName) prog_81_method_19_code (4 : Nat) (Option.some Jvm.ClassFile.FieldType.int)) ∈ lw_all := lw_g (lw_at lw_m30 92 rfl) rfl
theorem q7571 : (Jvm.Cond.methodLink "KnowHouseModel" (604 : Nat) ({ cls := "KnowHouseModel$FacetCountsModel", name := "above", desc := "(II)I" } : Jvm.MethodName)) ∈ lw_all := lw_g (lw_at lw_m30 133 rfl) rfl
theorem q7572 : (Jvm.Cond.instanceMethod ({ cls := "KnowHouseModel$FacetCountsModel", name := "above", desc := "(II)I" } : Jvm.MethodName)) ∈ lw_all := lw_g (lw_at lw_m30 134 rfl) rfl
theorem q7573 : (Jvm.Cond.selects "KnowHouseModel$FacetCountsModel" ({ cls := "KnowHouseModel$FacetCountsModel", name := "above", desc := "(II)I" } : Jvm.MethodName) ({ cls := "KnowHouseModel$FacetCountsModel", name := "above", desc := "(II)I" } : Jvm.MethodName)) ∈ lw_all := lw_g (lw_at lw_m30 135 rfl) rfl
theorem q7574 : (Jvm.Cond.code ({ cls := "KnowHouseModel$FacetCountsModel", name := "above", desc := "(II)I" } : Jvm.MethodName) prog_83_method_9_code (4 : Nat) (Option.some Jvm.ClassFile.FieldType.int)) ∈ lw_all := lw_g (lw_at lw_m30 136 rfl) rfl
theorem q7575 : (Jvm.Cond.methodLink "KnowHouseModel" (608 : Nat) ({ cls := "KnowHouseModel$QlRewriteModel", name := "axiom", desc := "(III)I" } : Jvm.MethodName)) ∈ lw_all := lw_g (lw_at lw_m30 137 rfl) rfl
theorem q7576 : (Jvm.Cond.instanceMethod ({ cls := "KnowHouseModel$QlRewriteModel", name := "axiom", desc := "(III)I" } : Jvm.MethodName)) ∈ lw_all := lw_g (lw_at lw_m30 138 rfl) rfl
theorem q7577 : (Jvm.Cond.selects "KnowHouseModel$QlRewriteModel" ({ cls := "KnowHouseModel$QlRewriteModel", name := "axiom", desc := "(III)I" } : Jvm.MethodName) ({ cls := "KnowHouseModel$QlRewriteModel", name := "axiom", desc := "(III)I" } : Jvm.MethodName)) ∈ lw_all := lw_g (lw_at lw_m30 139 rfl) rfl
theorem q7578 : (Jvm.Cond.code ({ cls := "KnowHouseModel$QlRewriteModel", name := "axiom", desc := "(III)I" } : Jvm.MethodName) prog_86_method_5_code (5 : Nat) (Option.some Jvm.ClassFile.FieldType.int)) ∈ lw_all := lw_g (lw_at lw_m30 140 rfl) rfl
theorem q7589 : (Jvm.Cond.constantLong "KnowHouseModel" (609 : Nat) (2 : Int64)) ∈ lw_all := lw_g (lw_at lw_m30 151 rfl) rfl
theorem q7590 : (Jvm.Cond.methodLink "KnowHouseModel" (704 : Nat) ({ cls := "KnowHouseModel", name := "is", desc := "(II)J" } : Jvm.MethodName)) ∈ lw_all := lw_g (lw_at lw_m30 152 rfl) rfl
theorem q7592 : (Jvm.Cond.instanceMethod ({ cls := "KnowHouseModel", name := "is", desc := "(II)J" } : Jvm.MethodName)) ∈ lw_all := lw_g (lw_at lw_m30 154 rfl) rfl
theorem q7593 : (Jvm.Cond.code ({ cls := "KnowHouseModel", name := "is", desc := "(II)J" } : Jvm.MethodName) prog_78_method_26_code (6 : Nat) (Option.some Jvm.ClassFile.FieldType.long)) ∈ lw_all := lw_g (lw_at lw_m30 155 rfl) rfl
theorem q7594 : (Jvm.Cond.methodLink "KnowHouseModel" (611 : Nat) ({ cls := "KnowHouseModel$ClassifySortModel", name := "put", desc := "(II)I" } : Jvm.MethodName)) ∈ lw_all := lw_g (lw_at lw_m30 156 rfl) rfl
theorem q7595 : (Jvm.Cond.instanceMethod ({ cls := "KnowHouseModel$ClassifySortModel", name := "put", desc := "(II)I" } : Jvm.MethodName)) ∈ lw_all := lw_g (lw_at lw_m30 157 rfl) rfl
theorem q7596 : (Jvm.Cond.selects "KnowHouseModel$ClassifySortModel" ({ cls := "KnowHouseModel$ClassifySortModel", name := "put", desc := "(II)I" } : Jvm.MethodName) ({ cls := "KnowHouseModel$ClassifySortModel", name := "put", desc := "(II)I" } : Jvm.MethodName)) ∈ lw_all := lw_g (lw_at lw_m30 158 rfl) rfl
theorem q7597 : (Jvm.Cond.code ({ cls := "KnowHouseModel$ClassifySortModel", name := "put", desc := "(II)I" } : Jvm.MethodName) prog_81_method_38_code (4 : Nat) (Option.some Jvm.ClassFile.FieldType.int)) ∈ lw_all := lw_g (lw_at lw_m30 159 rfl) rfl
theorem q7598 : (Jvm.Cond.methodLink "KnowHouseModel" (613 : Nat) ({ cls := "KnowHouseModel$QlRewriteModel", name := "fact", desc := "(ZIII)I" } : Jvm.MethodName)) ∈ lw_all := lw_g (lw_at lw_m30 160 rfl) rfl
theorem q7599 : (Jvm.Cond.instanceMethod ({ cls := "KnowHouseModel$QlRewriteModel", name := "fact", desc := "(ZIII)I" } : Jvm.MethodName)) ∈ lw_all := lw_g (lw_at lw_m30 161 rfl) rfl
theorem q7600 : (Jvm.Cond.selects "KnowHouseModel$QlRewriteModel" ({ cls := "KnowHouseModel$QlRewriteModel", name := "fact", desc := "(ZIII)I" } : Jvm.MethodName) ({ cls := "KnowHouseModel$QlRewriteModel", name := "fact", desc := "(ZIII)I" } : Jvm.MethodName)) ∈ lw_all := lw_g (lw_at lw_m30 162 rfl) rfl
theorem q7601 : (Jvm.Cond.code ({ cls := "KnowHouseModel$QlRewriteModel", name := "fact", desc := "(ZIII)I" } : Jvm.MethodName) prog_86_method_8_code (7 : Nat) (Option.some Jvm.ClassFile.FieldType.int)) ∈ lw_all := lw_g (lw_at lw_m30 163 rfl) rfl
theorem q7609 : (Jvm.Cond.constantLong "KnowHouseModel" (616 : Nat) (3 : Int64)) ∈ lw_all := lw_g (lw_at lw_m30 171 rfl) rfl
theorem q7610 : (Jvm.Cond.methodLink "KnowHouseModel" (707 : Nat) ({ cls := "KnowHouseModel", name := "order", desc := "()J" } : Jvm.MethodName)) ∈ lw_all := lw_g (lw_at lw_m30 172 rfl) rfl
theorem q7612 : (Jvm.Cond.instanceMethod ({ cls := "KnowHouseModel", name := "order", desc := "()J" } : Jvm.MethodName)) ∈ lw_all := lw_g (lw_at lw_m30 174 rfl) rfl
theorem q7613 : (Jvm.Cond.code ({ cls := "KnowHouseModel", name := "order", desc := "()J" } : Jvm.MethodName) prog_78_method_27_code (6 : Nat) (Option.some Jvm.ClassFile.FieldType.long)) ∈ lw_all := lw_g (lw_at lw_m30 175 rfl) rfl
theorem q7614 : (Jvm.Cond.methodLink "KnowHouseModel" (618 : Nat) ({ cls := "KnowHouseModel$ClassifySortModel", name := "run", desc := "()I" } : Jvm.MethodName)) ∈ lw_all := lw_g (lw_at lw_m30 176 rfl) rfl
theorem q7615 : (Jvm.Cond.instanceMethod ({ cls := "KnowHouseModel$ClassifySortModel", name := "run", desc := "()I" } : Jvm.MethodName)) ∈ lw_all := lw_g (lw_at lw_m30 177 rfl) rfl
theorem q7616 : (Jvm.Cond.selects "KnowHouseModel$ClassifySortModel" ({ cls := "KnowHouseModel$ClassifySortModel", name := "run", desc := "()I" } : Jvm.MethodName) ({ cls := "KnowHouseModel$ClassifySortModel", name := "run", desc := "()I" } : Jvm.MethodName)) ∈ lw_all := lw_g (lw_at lw_m30 178 rfl) rfl
theorem q7617 : (Jvm.Cond.code ({ cls := "KnowHouseModel$ClassifySortModel", name := "run", desc := "()I" } : Jvm.MethodName) prog_81_method_30_code (2 : Nat) (Option.some Jvm.ClassFile.FieldType.int)) ∈ lw_all := lw_g (lw_at lw_m30 179 rfl) rfl
theorem q7646 : (Jvm.Cond.methodLink "KnowHouseModel" (621 : Nat) ({ cls := "KnowHouseModel$ClassifySortModel", name := "count", desc := "(I)I" } : Jvm.MethodName)) ∈ lw_all := lw_g (lw_at lw_m30 208 rfl) rfl
theorem q7647 : (Jvm.Cond.instanceMethod ({ cls := "KnowHouseModel$ClassifySortModel", name := "count", desc := "(I)I" } : Jvm.MethodName)) ∈ lw_all := lw_g (lw_at lw_m30 209 rfl) rfl
theorem q7648 : (Jvm.Cond.selects "KnowHouseModel$ClassifySortModel" ({ cls := "KnowHouseModel$ClassifySortModel", name := "count", desc := "(I)I" } : Jvm.MethodName) ({ cls := "KnowHouseModel$ClassifySortModel", name := "count", desc := "(I)I" } : Jvm.MethodName)) ∈ lw_all := lw_g (lw_at lw_m30 210 rfl) rfl
theorem q7649 : (Jvm.Cond.code ({ cls := "KnowHouseModel$ClassifySortModel", name := "count", desc := "(I)I" } : Jvm.MethodName) prog_81_method_42_code (4 : Nat) (Option.some Jvm.ClassFile.FieldType.int)) ∈ lw_all := lw_g (lw_at lw_m30 211 rfl) rfl
theorem q7654 : (Jvm.Cond.methodLink "KnowHouseModel" (624 : Nat) ({ cls := "KnowHouseModel$ClassifySortModel", name := "parent", desc := "(II)I" } : Jvm.MethodName)) ∈ lw_all := lw_g (lw_at lw_m30 216 rfl) rfl
theorem q7655 : (Jvm.Cond.instanceMethod ({ cls := "KnowHouseModel$ClassifySortModel", name := "parent", desc := "(II)I" } : Jvm.MethodName)) ∈ lw_all := lw_g (lw_at lw_m30 217 rfl) rfl
theorem q7656 : (Jvm.Cond.selects "KnowHouseModel$ClassifySortModel" ({ cls := "KnowHouseModel$ClassifySortModel", name := "parent", desc := "(II)I" } : Jvm.MethodName) ({ cls := "KnowHouseModel$ClassifySortModel", name := "parent", desc := "(II)I" } : Jvm.MethodName)) ∈ lw_all := lw_g (lw_at lw_m30 218 rfl) rfl
theorem q7657 : (Jvm.Cond.code ({ cls := "KnowHouseModel$ClassifySortModel", name := "parent", desc := "(II)I" } : Jvm.MethodName) prog_81_method_33_code (6 : Nat) (Option.some Jvm.ClassFile.FieldType.int)) ∈ lw_all := lw_g (lw_at lw_m30 219 rfl) rfl
theorem q7666 : (Jvm.Cond.methodLink "KnowHouseModel" (710 : Nat) ({ cls := "KnowHouseModel", name := "take", desc := "(III)J" } : Jvm.MethodName)) ∈ lw_all := lw_g (lw_at lw_m30 228 rfl) rfl
theorem q7668 : (Jvm.Cond.instanceMethod ({ cls := "KnowHouseModel", name := "take", desc := "(III)J" } : Jvm.MethodName)) ∈ lw_all := lw_g (lw_at lw_m30 230 rfl) rfl
theorem q7669 : (Jvm.Cond.code ({ cls := "KnowHouseModel", name := "take", desc := "(III)J" } : Jvm.MethodName) prog_78_method_28_code (9 : Nat) (Option.some Jvm.ClassFile.FieldType.long)) ∈ lw_all := lw_g (lw_at lw_m30 231 rfl) rfl
theorem q7670 : (Jvm.Cond.methodLink "KnowHouseModel" (627 : Nat) ({ cls := "KnowHouseModel$VirtualRewriteModel", name := "run", desc := "()I" } : Jvm.MethodName)) ∈ lw_all := lw_g (lw_at lw_m30 232 rfl) rfl
theorem q7671 : (Jvm.Cond.instanceMethod ({ cls := "KnowHouseModel$VirtualRewriteModel", name := "run", desc := "()I" } : Jvm.MethodName)) ∈ lw_all := lw_g (lw_at lw_m30 233 rfl) rfl
theorem q7672 : (Jvm.Cond.selects "KnowHouseModel$VirtualRewriteModel" ({ cls := "KnowHouseModel$VirtualRewriteModel", name := "run", desc := "()I" } : Jvm.MethodName) ({ cls := "KnowHouseModel$VirtualRewriteModel", name := "run", desc := "()I" } : Jvm.MethodName)) ∈ lw_all := lw_g (lw_at lw_m30 234 rfl) rfl
theorem q7673 : (Jvm.Cond.code ({ cls := "KnowHouseModel$VirtualRewriteModel", name := "run", desc := "()I" } : Jvm.MethodName) prog_90_method_37_code (3 : Nat) (Option.some Jvm.ClassFile.FieldType.int)) ∈ lw_all := lw_g (lw_at lw_m30 235 rfl) rfl
theorem q7750 : (Jvm.Cond.methodLink "KnowHouseModel" (628 : Nat) ({ cls := "KnowHouseModel$VirtualRewriteModel", name := "value", desc := "(II)I" } : Jvm.MethodName)) ∈ lw_all := lw_g (lw_at lw_m31 72 rfl) rfl
theorem q7751 : (Jvm.Cond.instanceMethod ({ cls := "KnowHouseModel$VirtualRewriteModel", name := "value", desc := "(II)I" } : Jvm.MethodName)) ∈ lw_all := lw_g (lw_at lw_m31 73 rfl) rfl
theorem q7752 : (Jvm.Cond.selects "KnowHouseModel$VirtualRewriteModel" ({ cls := "KnowHouseModel$VirtualRewriteModel", name := "value", desc := "(II)I" } : Jvm.MethodName) ({ cls := "KnowHouseModel$VirtualRewriteModel", name := "value", desc := "(II)I" } : Jvm.MethodName)) ∈ lw_all := lw_g (lw_at lw_m31 74 rfl) rfl
theorem q7753 : (Jvm.Cond.code ({ cls := "KnowHouseModel$VirtualRewriteModel", name := "value", desc := "(II)I" } : Jvm.MethodName) prog_90_method_38_code (3 : Nat) (Option.some Jvm.ClassFile.FieldType.int)) ∈ lw_all := lw_g (lw_at lw_m31 75 rfl) rfl
theorem q7757 : (Jvm.Cond.methodLink "KnowHouseModel" (630 : Nat) ({ cls := "KnowHouseModel$VirtualRewriteModel", name := "thrown", desc := "()I" } : Jvm.MethodName)) ∈ lw_all := lw_g (lw_at lw_m31 79 rfl) rfl
theorem q7758 : (Jvm.Cond.instanceMethod ({ cls := "KnowHouseModel$VirtualRewriteModel", name := "thrown", desc := "()I" } : Jvm.MethodName)) ∈ lw_all := lw_g (lw_at lw_m31 80 rfl) rfl
theorem q7759 : (Jvm.Cond.selects "KnowHouseModel$VirtualRewriteModel" ({ cls := "KnowHouseModel$VirtualRewriteModel", name := "thrown", desc := "()I" } : Jvm.MethodName) ({ cls := "KnowHouseModel$VirtualRewriteModel", name := "thrown", desc := "()I" } : Jvm.MethodName)) ∈ lw_all := lw_g (lw_at lw_m31 81 rfl) rfl
theorem q7760 : (Jvm.Cond.code ({ cls := "KnowHouseModel$VirtualRewriteModel", name := "thrown", desc := "()I" } : Jvm.MethodName) prog_90_method_2_code (1 : Nat) (Option.some Jvm.ClassFile.FieldType.int)) ∈ lw_all := lw_g (lw_at lw_m31 82 rfl) rfl
theorem q7761 : (Jvm.Cond.methodLink "KnowHouseModel" (714 : Nat) ({ cls := "KnowHouseModel", name := "store", desc := "(I)J" } : Jvm.MethodName)) ∈ lw_all := lw_g (lw_at lw_m31 83 rfl) rfl
theorem q7763 : (Jvm.Cond.instanceMethod ({ cls := "KnowHouseModel", name := "store", desc := "(I)J" } : Jvm.MethodName)) ∈ lw_all := lw_g (lw_at lw_m31 85 rfl) rfl
theorem q7764 : (Jvm.Cond.code ({ cls := "KnowHouseModel", name := "store", desc := "(I)J" } : Jvm.MethodName) prog_78_method_29_code (5 : Nat) (Option.some Jvm.ClassFile.FieldType.long)) ∈ lw_all := lw_g (lw_at lw_m31 86 rfl) rfl
theorem q7765 : (Jvm.Cond.constantLong "KnowHouseModel" (631 : Nat) (1000000 : Int64)) ∈ lw_all := lw_g (lw_at lw_m31 87 rfl) rfl
theorem q7766 : (Jvm.Cond.constantLong "KnowHouseModel" (633 : Nat) (1000 : Int64)) ∈ lw_all := lw_g (lw_at lw_m31 88 rfl) rfl
theorem q7767 : (Jvm.Cond.methodLink "KnowHouseModel" (635 : Nat) ({ cls := "KnowHouseModel$FacetCountsModel", name := "kept", desc := "()I" } : Jvm.MethodName)) ∈ lw_all := lw_g (lw_at lw_m31 89 rfl) rfl
theorem q7768 : (Jvm.Cond.instanceMethod ({ cls := "KnowHouseModel$FacetCountsModel", name := "kept", desc := "()I" } : Jvm.MethodName)) ∈ lw_all := lw_g (lw_at lw_m31 90 rfl) rfl
theorem q7769 : (Jvm.Cond.selects "KnowHouseModel$FacetCountsModel" ({ cls := "KnowHouseModel$FacetCountsModel", name := "kept", desc := "()I" } : Jvm.MethodName) ({ cls := "KnowHouseModel$FacetCountsModel", name := "kept", desc := "()I" } : Jvm.MethodName)) ∈ lw_all := lw_g (lw_at lw_m31 91 rfl) rfl
theorem q7770 : (Jvm.Cond.code ({ cls := "KnowHouseModel$FacetCountsModel", name := "kept", desc := "()I" } : Jvm.MethodName) prog_83_method_16_code (1 : Nat) (Option.some Jvm.ClassFile.FieldType.int)) ∈ lw_all := lw_g (lw_at lw_m31 92 rfl) rfl
theorem q7786 : (Jvm.Cond.methodLink "KnowHouseModel" (638 : Nat) ({ cls := "KnowHouseModel$CanonNamesModel", name := "triples", desc := "()I" } : Jvm.MethodName)) ∈ lw_all := lw_g (lw_at lw_m31 108 rfl) rfl
theorem q7787 : (Jvm.Cond.instanceMethod ({ cls := "KnowHouseModel$CanonNamesModel", name := "triples", desc := "()I" } : Jvm.MethodName)) ∈ lw_all := lw_g (lw_at lw_m31 109 rfl) rfl
theorem q7788 : (Jvm.Cond.selects "KnowHouseModel$CanonNamesModel" ({ cls := "KnowHouseModel$CanonNamesModel", name := "triples", desc := "()I" } : Jvm.MethodName) ({ cls := "KnowHouseModel$CanonNamesModel", name := "triples", desc := "()I" } : Jvm.MethodName)) ∈ lw_all := lw_g (lw_at lw_m31 110 rfl) rfl
theorem q7789 : (Jvm.Cond.code ({ cls := "KnowHouseModel$CanonNamesModel", name := "triples", desc := "()I" } : Jvm.MethodName) prog_80_method_45_code (1 : Nat) (Option.some Jvm.ClassFile.FieldType.int)) ∈ lw_all := lw_g (lw_at lw_m31 111 rfl) rfl
theorem q7790 : (Jvm.Cond.methodLink "KnowHouseModel" (641 : Nat) ({ cls := "KnowHouseModel$KnowDiskModel", name := "page", desc := "(IIJ)I" } : Jvm.MethodName)) ∈ lw_all := lw_g (lw_at lw_m31 112 rfl) rfl
theorem q7791 : (Jvm.Cond.instanceMethod ({ cls := "KnowHouseModel$KnowDiskModel", name := "page", desc := "(IIJ)I" } : Jvm.MethodName)) ∈ lw_all := lw_g (lw_at lw_m31 113 rfl) rfl
theorem q7792 : (Jvm.Cond.selects "KnowHouseModel$KnowDiskModel" ({ cls := "KnowHouseModel$KnowDiskModel", name := "page", desc := "(IIJ)I" } : Jvm.MethodName) ({ cls := "KnowHouseModel$KnowDiskModel", name := "page", desc := "(IIJ)I" } : Jvm.MethodName)) ∈ lw_all := lw_g (lw_at lw_m31 114 rfl) rfl
theorem q7793 : (Jvm.Cond.code ({ cls := "KnowHouseModel$KnowDiskModel", name := "page", desc := "(IIJ)I" } : Jvm.MethodName) prog_84_method_21_code (6 : Nat) (Option.some Jvm.ClassFile.FieldType.int)) ∈ lw_all := lw_g (lw_at lw_m31 115 rfl) rfl
theorem q7858 : (Jvm.Cond.methodLink "KnowHouseModel" (645 : Nat) ({ cls := "KnowHouseModel$KnowDiskModel", name := "commit", desc := "(I)I" } : Jvm.MethodName)) ∈ lw_all := lw_g (lw_at lw_m31 180 rfl) rfl
theorem q7859 : (Jvm.Cond.instanceMethod ({ cls := "KnowHouseModel$KnowDiskModel", name := "commit", desc := "(I)I" } : Jvm.MethodName)) ∈ lw_all := lw_g (lw_at lw_m31 181 rfl) rfl
theorem q7860 : (Jvm.Cond.selects "KnowHouseModel$KnowDiskModel" ({ cls := "KnowHouseModel$KnowDiskModel", name := "commit", desc := "(I)I" } : Jvm.MethodName) ({ cls := "KnowHouseModel$KnowDiskModel", name := "commit", desc := "(I)I" } : Jvm.MethodName)) ∈ lw_all := lw_g (lw_at lw_m31 182 rfl) rfl
theorem q7861 : (Jvm.Cond.code ({ cls := "KnowHouseModel$KnowDiskModel", name := "commit", desc := "(I)I" } : Jvm.MethodName) prog_84_method_24_code (7 : Nat) (Option.some Jvm.ClassFile.FieldType.int)) ∈ lw_all := lw_g (lw_at lw_m31 183 rfl) rfl
theorem q7867 : (Jvm.Cond.methodLink "KnowHouseModel" (646 : Nat) ({ cls := "KnowHouseModel$KnowDiskModel", name := "sync", desc := "()I" } : Jvm.MethodName)) ∈ lw_all := lw_g (lw_at lw_m31 189 rfl) rfl
theorem q7868 : (Jvm.Cond.instanceMethod ({ cls := "KnowHouseModel$KnowDiskModel", name := "sync", desc := "()I" } : Jvm.MethodName)) ∈ lw_all := lw_g (lw_at lw_m31 190 rfl) rfl
theorem q7869 : (Jvm.Cond.selects "KnowHouseModel$KnowDiskModel" ({ cls := "KnowHouseModel$KnowDiskModel", name := "sync", desc := "()I" } : Jvm.MethodName) ({ cls := "KnowHouseModel$KnowDiskModel", name := "sync", desc := "()I" } : Jvm.MethodName)) ∈ lw_all := lw_g (lw_at lw_m31 191 rfl) rfl
theorem q7870 : (Jvm.Cond.code ({ cls := "KnowHouseModel$KnowDiskModel", name := "sync", desc := "()I" } : Jvm.MethodName) prog_84_method_27_code (1 : Nat) (Option.some Jvm.ClassFile.FieldType.int)) ∈ lw_all := lw_g (lw_at lw_m31 192 rfl) rfl
theorem q7879 : (Jvm.Cond.constantLong "KnowHouseModel" (649 : Nat) (4 : Int64)) ∈ lw_all := lw_g (lw_at lw_m31 201 rfl) rfl
theorem q7880 : (Jvm.Cond.methodLink "KnowHouseModel" (717 : Nat) ({ cls := "KnowHouseModel", name := "audit", desc := "()I" } : Jvm.MethodName)) ∈ lw_all := lw_g (lw_at lw_m31 202 rfl) rfl
theorem q7881 : (Jvm.Cond.instanceMethod ({ cls := "KnowHouseModel", name := "audit", desc := "()I" } : Jvm.MethodName)) ∈ lw_all := lw_g (lw_at lw_m31 203 rfl) rfl
theorem q7882 : (Jvm.Cond.selects "KnowHouseModel" ({ cls := "KnowHouseModel", name := "audit", desc := "()I" } : Jvm.MethodName) ({ cls := "KnowHouseModel", name := "audit", desc := "()I" } : Jvm.MethodName)) ∈ lw_all := lw_g (lw_at lw_m31 204 rfl) rfl
theorem q7883 : (Jvm.Cond.code ({ cls := "KnowHouseModel", name := "audit", desc := "()I" } : Jvm.MethodName) prog_78_method_30_code (3 : Nat) (Option.some Jvm.ClassFile.FieldType.int)) ∈ lw_all := lw_g (lw_at lw_m31 205 rfl) rfl
theorem q7884 : (Jvm.Cond.methodLink "KnowHouseModel" (651 : Nat) ({ cls := "KnowHouseModel$RuleEngineModel", name := "holds", desc := "(III)I" } : Jvm.MethodName)) ∈ lw_all := lw_g (lw_at lw_m31 206 rfl) rfl
theorem q7885 : (Jvm.Cond.instanceMethod ({ cls := "KnowHouseModel$RuleEngineModel", name := "holds", desc := "(III)I" } : Jvm.MethodName)) ∈ lw_all := lw_g (lw_at lw_m31 207 rfl) rfl
theorem q7886 : (Jvm.Cond.selects "KnowHouseModel$RuleEngineModel" ({ cls := "KnowHouseModel$RuleEngineModel", name := "holds", desc := "(III)I" } : Jvm.MethodName) ({ cls := "KnowHouseModel$RuleEngineModel", name := "holds", desc := "(III)I" } : Jvm.MethodName)) ∈ lw_all := lw_g (lw_at lw_m31 208 rfl) rfl
theorem q7887 : (Jvm.Cond.code ({ cls := "KnowHouseModel$RuleEngineModel", name := "holds", desc := "(III)I" } : Jvm.MethodName) prog_88_method_34_code (5 : Nat) (Option.some Jvm.ClassFile.FieldType.int)) ∈ lw_all := lw_g (lw_at lw_m31 209 rfl) rfl
theorem q7949 : (Jvm.Cond.methodLink "KnowHouseModel" (720 : Nat) ({ cls := "KnowHouseModel", name := "entry", desc := "(II)J" } : Jvm.MethodName)) ∈ lw_all := lw_g (lw_at lw_m32 31 rfl) rfl
theorem q7951 : (Jvm.Cond.instanceMethod ({ cls := "KnowHouseModel", name := "entry", desc := "(II)J" } : Jvm.MethodName)) ∈ lw_all := lw_g (lw_at lw_m32 33 rfl) rfl
theorem q7952 : (Jvm.Cond.code ({ cls := "KnowHouseModel", name := "entry", desc := "(II)J" } : Jvm.MethodName) prog_78_method_31_code (3 : Nat) (Option.some Jvm.ClassFile.FieldType.long)) ∈ lw_all := lw_g (lw_at lw_m32 34 rfl) rfl
theorem q7953 : (Jvm.Cond.methodLink "KnowHouseModel" (657 : Nat) ({ cls := "KnowHouseModel", name := "namesCall", desc := "(I)J" } : Jvm.MethodName)) ∈ lw_all := lw_g (lw_at lw_m32 35 rfl) rfl
theorem q7955 : (Jvm.Cond.instanceMethod ({ cls := "KnowHouseModel", name := "namesCall", desc := "(I)J" } : Jvm.MethodName)) ∈ lw_all := lw_g (lw_at lw_m32 37 rfl) rfl
theorem q7956 : (Jvm.Cond.code ({ cls := "KnowHouseModel", name := "namesCall", desc := "(I)J" } : Jvm.MethodName) prog_78_method_35_code (2 : Nat) (Option.some Jvm.ClassFile.FieldType.long)) ∈ lw_all := lw_g (lw_at lw_m32 38 rfl) rfl
theorem q7957 : (Jvm.Cond.methodLink "KnowHouseModel" (723 : Nat) ({ cls := "KnowHouseModel$CanonNamesModel", name := "drop", desc := "(III)I" } : Jvm.MethodName)) ∈ lw_all := lw_g (lw_at lw_m32 39 rfl) rfl
theorem q7958 : (Jvm.Cond.instanceMethod ({ cls := "KnowHouseModel$CanonNamesModel", name := "drop", desc := "(III)I" } : Jvm.MethodName)) ∈ lw_all := lw_g (lw_at lw_m32 40 rfl) rfl
theorem q7959 : (Jvm.Cond.selects "KnowHouseModel$CanonNamesModel" ({ cls := "KnowHouseModel$CanonNamesModel", name := "drop", desc := "(III)I" } : Jvm.MethodName) ({ cls := "KnowHouseModel$CanonNamesModel", name := "drop", desc := "(III)I" } : Jvm.MethodName)) ∈ lw_all := lw_g (lw_at lw_m32 41 rfl) rfl
theorem q7960 : (Jvm.Cond.code ({ cls := "KnowHouseModel$CanonNamesModel", name := "drop", desc := "(III)I" } : Jvm.MethodName) prog_80_method_14_code (6 : Nat) (Option.some Jvm.ClassFile.FieldType.int)) ∈ lw_all := lw_g (lw_at lw_m32 42 rfl) rfl
theorem q7961 : (Jvm.Cond.methodLink "KnowHouseModel" (724 : Nat) ({ cls := "KnowHouseModel$CanonNamesModel", name := "named", desc := "(I)I" } : Jvm.MethodName)) ∈ lw_all := lw_g (lw_at lw_m32 43 rfl) rfl
theorem q7962 : (Jvm.Cond.instanceMethod ({ cls := "KnowHouseModel$CanonNamesModel", name := "named", desc := "(I)I" } : Jvm.MethodName)) ∈ lw_all := lw_g (lw_at lw_m32 44 rfl) rfl
theorem q7963 : (Jvm.Cond.selects "KnowHouseModel$CanonNamesModel" ({ cls := "KnowHouseModel$CanonNamesModel", name := "named", desc := "(I)I" } : Jvm.MethodName) ({ cls := "KnowHouseModel$CanonNamesModel", name := "named", desc := "(I)I" } : Jvm.MethodName)) ∈ lw_all := lw_g (lw_at lw_m32 45 rfl) rfl
theorem q7964 : (Jvm.Cond.code ({ cls := "KnowHouseModel$CanonNamesModel", name := "named", desc := "(I)I" } : Jvm.MethodName) prog_80_method_36_code (2 : Nat) (Option.some Jvm.ClassFile.FieldType.int)) ∈ lw_all := lw_g (lw_at lw_m32 46 rfl) rfl
theorem q7965 : (Jvm.Cond.methodLink "KnowHouseModel" (727 : Nat) ({ cls := "KnowHouseModel$CanonNamesModel", name := "form", desc := "(II)I" } : Jvm.MethodName)) ∈ lw_all := lw_g (lw_at lw_m32 47 rfl) rfl
theorem q7966 : (Jvm.Cond.instanceMethod ({ cls := "KnowHouseModel$CanonNamesModel", name := "form", desc := "(II)I" } : Jvm.MethodName)) ∈ lw_all := lw_g (lw_at lw_m32 48 rfl) rfl
theorem q7967 : (Jvm.Cond.selects "KnowHouseModel$CanonNamesModel" ({ cls := "KnowHouseModel$CanonNamesModel", name := "form", desc := "(II)I" } : Jvm.MethodName) ({ cls := "KnowHouseModel$CanonNamesModel", name := "form", desc := "(II)I" } : Jvm.MethodName)) ∈ lw_all := lw_g (lw_at lw_m32 49 rfl) rfl
theorem q7968 : (Jvm.Cond.code ({ cls := "KnowHouseModel$CanonNamesModel", name := "form", desc := "(II)I" } : Jvm.MethodName) prog_80_method_37_code (3 : Nat) (Option.some Jvm.ClassFile.FieldType.int)) ∈ lw_all := lw_g (lw_at lw_m32 50 rfl) rfl
theorem q7969 : (Jvm.Cond.methodLink "KnowHouseModel" (730 : Nat) ({ cls := "KnowHouseModel$CanonNamesModel", name := "hash", desc := "(II)I" } : Jvm.MethodName)) ∈ lw_all := lw_g (lw_at lw_m32 51 rfl) rfl
theorem q7970 : (Jvm.Cond.instanceMethod ({ cls := "KnowHouseModel$CanonNamesModel", name := "hash", desc := "(II)I" } : Jvm.MethodName)) ∈ lw_all := lw_g (lw_at lw_m32 52 rfl) rfl
theorem q7971 : (Jvm.Cond.selects "KnowHouseModel$CanonNamesModel" ({ cls := "KnowHouseModel$CanonNamesModel", name := "hash", desc := "(II)I" } : Jvm.MethodName) ({ cls := "KnowHouseModel$CanonNamesModel", name := "hash", desc := "(II)I" } : Jvm.MethodName)) ∈ lw_all := lw_g (lw_at lw_m32 53 rfl) rfl
theorem q7972 : (Jvm.Cond.code ({ cls := "KnowHouseModel$CanonNamesModel", name := "hash", desc := "(II)I" } : Jvm.MethodName) prog_80_method_22_code (3 : Nat) (Option.some Jvm.ClassFile.FieldType.int)) ∈ lw_all := lw_g (lw_at lw_m32 54 rfl) rfl
theorem q7973 : (Jvm.Cond.methodLink "KnowHouseModel" (733 : Nat) ({ cls := "KnowHouseModel$CanonNamesModel", name := "rounds", desc := "()I" } : Jvm.MethodName)) ∈ lw_all := lw_g (lw_at lw_m32 55 rfl) rfl
theorem q7974 : (Jvm.Cond.instanceMethod ({ cls := "KnowHouseModel$CanonNamesModel", name := "rounds", desc := "()I" } : Jvm.MethodName)) ∈ lw_all := lw_g (lw_at lw_m32 56 rfl) rfl
theorem q7975 : (Jvm.Cond.selects "KnowHouseModel$CanonNamesModel" ({ cls := "KnowHouseModel$CanonNamesModel", name := "rounds", desc := "()I" } : Jvm.MethodName) ({ cls := "KnowHouseModel$CanonNamesModel", name := "rounds", desc := "()I" } : Jvm.MethodName)) ∈ lw_all := lw_g (lw_at lw_m32 57 rfl) rfl
theorem q7976 : (Jvm.Cond.code ({ cls := "KnowHouseModel$CanonNamesModel", name := "rounds", desc := "()I" } : Jvm.MethodName) prog_80_method_23_code (1 : Nat) (Option.some Jvm.ClassFile.FieldType.int)) ∈ lw_all := lw_g (lw_at lw_m32 58 rfl) rfl
theorem q7977 : (Jvm.Cond.methodLink "KnowHouseModel" (736 : Nat) ({ cls := "KnowHouseModel$CanonNamesModel", name := "first", desc := "(II)I" } : Jvm.MethodName)) ∈ lw_all := lw_g (lw_at lw_m32 59 rfl) rfl
theorem q7978 : (Jvm.Cond.instanceMethod ({ cls := "KnowHouseModel$CanonNamesModel", name := "first", desc := "(II)I" } : Jvm.MethodName)) ∈ lw_all := lw_g (lw_at lw_m32 60 rfl) rfl
theorem q7979 : (Jvm.Cond.selects "KnowHouseModel$CanonNamesModel" ({ cls := "KnowHouseModel$CanonNamesModel", name := "first", desc := "(II)I" } : Jvm.MethodName) ({ cls := "KnowHouseModel$CanonNamesModel", name := "first", desc := "(II)I" } : Jvm.MethodName)) ∈ lw_all := lw_g (lw_at lw_m32 61 rfl) rfl
theorem q7980 : (Jvm.Cond.code ({ cls := "KnowHouseModel$CanonNamesModel", name := "first", desc := "(II)I" } : Jvm.MethodName) prog_80_method_24_code (5 : Nat) (Option.some Jvm.ClassFile.FieldType.int)) ∈ lw_all := lw_g (lw_at lw_m32 62 rfl) rfl
theorem q7981 : (Jvm.Cond.methodLink "KnowHouseModel" (739 : Nat) ({ cls := "KnowHouseModel$CanonNamesModel", name := "ways", desc := "(I)I" } : Jvm.MethodName)) ∈ lw_all := lw_g (lw_at lw_m32 63 rfl) rfl
theorem q7982 : (Jvm.Cond.methodLink "KnowHouseModel" (742 : Nat) ({ cls := "KnowHouseModel$CanonNamesModel", name := "equal", desc := "(I)I" } : Jvm.MethodName)) ∈ lw_all := lw_g (lw_at lw_m32 64 rfl) rfl
theorem q7983 : (Jvm.Cond.instanceMethod ({ cls := "KnowHouseModel$CanonNamesModel", name := "equal", desc := "(I)I" } : Jvm.MethodName)) ∈ lw_all := lw_g (lw_at lw_m32 65 rfl) rfl
theorem q7984 : (Jvm.Cond.selects "KnowHouseModel$CanonNamesModel" ({ cls := "KnowHouseModel$CanonNamesModel", name := "equal", desc := "(I)I" } : Jvm.MethodName) ({ cls := "KnowHouseModel$CanonNamesModel", name := "equal", desc := "(I)I" } : Jvm.MethodName)) ∈ lw_all := lw_g (lw_at lw_m32 66 rfl) rfl
theorem q7985 : (Jvm.Cond.code ({ cls := "KnowHouseModel$CanonNamesModel", name := "equal", desc := "(I)I" } : Jvm.MethodName) prog_80_method_44_code (2 : Nat) (Option.some Jvm.ClassFile.FieldType.int)) ∈ lw_all := lw_g (lw_at lw_m32 67 rfl) rfl
theorem q7986 : (Jvm.Cond.methodLink "KnowHouseModel" (745 : Nat) ({ cls := "KnowHouseModel$CanonNamesModel", name := "blanks", desc := "()I" } : Jvm.MethodName)) ∈ lw_all := lw_g (lw_at lw_m32 68 rfl) rfl
theorem q7987 : (Jvm.Cond.instanceMethod ({ cls := "KnowHouseModel$CanonNamesModel", name := "blanks", desc := "()I" } : Jvm.MethodName)) ∈ lw_all := lw_g (lw_at lw_m32 69 rfl) rfl
theorem q7988 : (Jvm.Cond.selects "KnowHouseModel$CanonNamesModel" ({ cls := "KnowHouseModel$CanonNamesModel", name := "blanks", desc := "()I" } : Jvm.MethodName) ({ cls := "KnowHouseModel$CanonNamesModel", name := "blanks", desc := "()I" } : Jvm.MethodName)) ∈ lw_all := lw_g (lw_at lw_m32 70 rfl) rfl
theorem q7989 : (Jvm.Cond.code ({ cls := "KnowHouseModel$CanonNamesModel", name := "blanks", desc := "()I" } : Jvm.MethodName) prog_80_method_46_code (1 : Nat) (Option.some Jvm.ClassFile.FieldType.int)) ∈ lw_all := lw_g (lw_at lw_m32 71 rfl) rfl
theorem q7990 : (Jvm.Cond.methodLink "KnowHouseModel" (660 : Nat) ({ cls := "KnowHouseModel", name := "versionsCall", desc := "(I)J" } : Jvm.MethodName)) ∈ lw_all := lw_g (lw_at lw_m32 72 rfl) rfl
theorem q7992 : (Jvm.Cond.instanceMethod ({ cls := "KnowHouseModel", name := "versionsCall", desc := "(I)J" } : Jvm.MethodName)) ∈ lw_all := lw_g (lw_at lw_m32 74 rfl) rfl
theorem q7993 : (Jvm.Cond.code ({ cls := "KnowHouseModel", name := "versionsCall", desc := "(I)J" } : Jvm.MethodName) prog_78_method_36_code (2 : Nat) (Option.some Jvm.ClassFile.FieldType.long)) ∈ lw_all := lw_g (lw_at lw_m32 75 rfl) rfl
theorem q7994 : (Jvm.Cond.methodLink "KnowHouseModel" (748 : Nat) ({ cls := "KnowHouseModel$VersionTransModel", name := "look", desc := "(I)I" } : Jvm.MethodName)) ∈ lw_all := lw_g (lw_at lw_m32 76 rfl) rfl
theorem q7995 : (Jvm.Cond.instanceMethod ({ cls := "KnowHouseModel$VersionTransModel", name := "look", desc := "(I)I" } : Jvm.MethodName)) ∈ lw_all := lw_g (lw_at lw_m32 77 rfl) rfl
theorem q7996 : (Jvm.Cond.selects "KnowHouseModel$VersionTransModel" ({ cls := "KnowHouseModel$VersionTransModel", name := "look", desc := "(I)I" } : Jvm.MethodName) ({ cls := "KnowHouseModel$VersionTransModel", name := "look", desc := "(I)I" } : Jvm.MethodName)) ∈ lw_all := lw_g (lw_at lw_m32 78 rfl) rfl
theorem q7997 : (Jvm.Cond.code ({ cls := "KnowHouseModel$VersionTransModel", name := "look", desc := "(I)I" } : Jvm.MethodName) prog_89_method_21_code (2 : Nat) (Option.some Jvm.ClassFile.FieldType.int)) ∈ lw_all := lw_g (lw_at lw_m32 79 rfl) rfl
theorem q7998 : (Jvm.Cond.methodLink "KnowHouseModel" (751 : Nat) ({ cls := "KnowHouseModel$VersionTransModel", name := "note", desc := "(II)I" } : Jvm.MethodName)) ∈ lw_all := lw_g (lw_at lw_m32 80 rfl) rfl
theorem q7999 : (Jvm.Cond.instanceMethod ({ cls := "KnowHouseModel$VersionTransModel", name := "note", desc := "(II)I" } : Jvm.MethodName)) ∈ lw_all := lw_g (lw_at lw_m32 81 rfl) rfl
theorem q8000 : (Jvm.Cond.selects "KnowHouseModel$VersionTransModel" ({ cls := "KnowHouseModel$VersionTransModel", name := "note", desc := "(II)I" } : Jvm.MethodName) ({ cls := "KnowHouseModel$VersionTransModel", name := "note", desc := "(II)I" } : Jvm.MethodName)) ∈ lw_all := lw_g (lw_at lw_m32 82 rfl) rfl
theorem q8001 : (Jvm.Cond.code ({ cls := "KnowHouseModel$VersionTransModel", name := "note", desc := "(II)I" } : Jvm.MethodName) prog_89_method_26_code (6 : Nat) (Option.some Jvm.ClassFile.FieldType.int)) ∈ lw_all := lw_g (lw_at lw_m32 83 rfl) rfl
theorem q8002 : (Jvm.Cond.methodLink "KnowHouseModel" (754 : Nat) ({ cls := "KnowHouseModel$VersionTransModel", name := "read", desc := "(II)Z" } : Jvm.MethodName)) ∈ lw_all := lw_g (lw_at lw_m32 84 rfl) rfl
theorem q8003 : (Jvm.Cond.instanceMethod ({ cls := "KnowHouseModel$VersionTransModel", name := "read", desc := "(II)Z" } : Jvm.MethodName)) ∈ lw_all := lw_g (lw_at lw_m32 85 rfl) rfl
theorem q8004 : (Jvm.Cond.selects "KnowHouseModel$VersionTransModel" ({ cls := "KnowHouseModel$VersionTransModel", name := "read", desc := "(II)Z" } : Jvm.MethodName) ({ cls := "KnowHouseModel$VersionTransModel", name := "read", desc := "(II)Z" } : Jvm.MethodName)) ∈ lw_all := lw_g (lw_at lw_m32 86 rfl) rfl
theorem q8005 : (Jvm.Cond.code ({ cls := "KnowHouseModel$VersionTransModel", name := "read", desc := "(II)Z" } : Jvm.MethodName) prog_89_method_24_code (5 : Nat) (Option.some Jvm.ClassFile.FieldType.boolean)) ∈ lw_all := lw_g (lw_at lw_m32 87 rfl) rfl
theorem q8006 : (Jvm.Cond.methodLink "KnowHouseModel" (757 : Nat) ({ cls := "KnowHouseModel$VersionTransModel", name := "pin", desc := "(I)I" } : Jvm.MethodName)) ∈ lw_all := lw_g (lw_at lw_m32 88 rfl) rfl
theorem q8007 : (Jvm.Cond.instanceMethod ({ cls := "KnowHouseModel$VersionTransModel", name := "pin", desc := "(I)I" } : Jvm.MethodName)) ∈ lw_all := lw_g (lw_at lw_m32 89 rfl) rfl
theorem q8008 : (Jvm.Cond.selects "KnowHouseModel$VersionTransModel" ({ cls := "KnowHouseModel$VersionTransModel", name := "pin", desc := "(I)I" } : Jvm.MethodName) ({ cls := "KnowHouseModel$VersionTransModel", name := "pin", desc := "(I)I" } : Jvm.MethodName)) ∈ lw_all := lw_g (lw_at lw_m32 90 rfl) rfl
theorem q8009 : (Jvm.Cond.code ({ cls := "KnowHouseModel$VersionTransModel", name := "pin", desc := "(I)I" } : Jvm.MethodName) prog_89_method_16_code (2 : Nat) (Option.some Jvm.ClassFile.FieldType.int)) ∈ lw_all := lw_g (lw_at lw_m32 91 rfl) rfl
theorem q8010 : (Jvm.Cond.methodLink "KnowHouseModel" (760 : Nat) ({ cls := "KnowHouseModel$VersionTransModel", name := "unpin", desc := "(I)I" } : Jvm.MethodName)) ∈ lw_all := lw_g (lw_at lw_m32 92 rfl) rfl
theorem q8011 : (Jvm.Cond.instanceMethod ({ cls := "KnowHouseModel$VersionTransModel", name := "unpin", desc := "(I)I" } : Jvm.MethodName)) ∈ lw_all := lw_g (lw_at lw_m32 93 rfl) rfl
theorem q8012 : (Jvm.Cond.selects "KnowHouseModel$VersionTransModel" ({ cls := "KnowHouseModel$VersionTransModel", name := "unpin", desc := "(I)I" } : Jvm.MethodName) ({ cls := "KnowHouseModel$VersionTransModel", name := "unpin", desc := "(I)I" } : Jvm.MethodName)) ∈ lw_all := lw_g (lw_at lw_m32 94 rfl) rfl
theorem q8013 : (Jvm.Cond.code ({ cls := "KnowHouseModel$VersionTransModel", name := "unpin", desc := "(I)I" } : Jvm.MethodName) prog_89_method_17_code (2 : Nat) (Option.some Jvm.ClassFile.FieldType.int)) ∈ lw_all := lw_g (lw_at lw_m32 95 rfl) rfl
theorem q8014 : (Jvm.Cond.methodLink "KnowHouseModel" (763 : Nat) ({ cls := "KnowHouseModel$VersionTransModel", name := "free", desc := "()I" } : Jvm.MethodName)) ∈ lw_all := lw_g (lw_at lw_m32 96 rfl) rfl
theorem q8015 : (Jvm.Cond.instanceMethod ({ cls := "KnowHouseModel$VersionTransModel", name := "free", desc := "()I" } : Jvm.MethodName)) ∈ lw_all := lw_g (lw_at lw_m32 97 rfl) rfl
theorem q8016 : (Jvm.Cond.selects "KnowHouseModel$VersionTransModel" ({ cls := "KnowHouseModel$VersionTransModel", name := "free", desc := "()I" } : Jvm.MethodName) ({ cls := "KnowHouseModel$VersionTransModel", name := "free", desc := "()I" } : Jvm.MethodName)) ∈ lw_all := lw_g (lw_at lw_m32 98 rfl) rfl
theorem q8017 : (Jvm.Cond.code ({ cls := "KnowHouseModel$VersionTransModel", name := "free", desc := "()I" } : Jvm.MethodName) prog_89_method_18_code (7 : Nat) (Option.some Jvm.ClassFile.FieldType.int)) ∈ lw_all := lw_g (lw_at lw_m32 99 rfl) rfl
theorem q8018 : (Jvm.Cond.methodLink "KnowHouseModel" (766 : Nat) ({ cls := "KnowHouseModel$VersionTransModel", name := "rows", desc := "()I" } : Jvm.MethodName)) ∈ lw_all := lw_g (lw_at lw_m32 100 rfl) rfl
theorem q8019 : (Jvm.Cond.instanceMethod ({ cls := "KnowHouseModel$VersionTransModel", name := "rows", desc := "()I" } : Jvm.MethodName)) ∈ lw_all := lw_g (lw_at lw_m32 101 rfl) rfl
theorem q8020 : (Jvm.Cond.selects "KnowHouseModel$VersionTransModel" ({ cls := "KnowHouseModel$VersionTransModel", name := "rows", desc := "()I" } : Jvm.MethodName) ({ cls := "KnowHouseModel$VersionTransModel", name := "rows", desc := "()I" } : Jvm.MethodName)) ∈ lw_all := lw_g (lw_at lw_m32 102 rfl) rfl
theorem q8021 : (Jvm.Cond.code ({ cls := "KnowHouseModel$VersionTransModel", name := "rows", desc := "()I" } : Jvm.MethodName) prog_89_method_14_code (1 : Nat) (Option.some Jvm.ClassFile.FieldType.int)) ∈ lw_all := lw_g (lw_at lw_m32 103 rfl) rfl
theorem q8022 : (Jvm.Cond.methodLink "KnowHouseModel" (769 : Nat) ({ cls := "KnowHouseModel$VersionTransModel", name := "least", desc := "()I" } : Jvm.MethodName)) ∈ lw_all := lw_g (lw_at lw_m32 104 rfl) rfl
theorem q8023 : (Jvm.Cond.instanceMethod ({ cls := "KnowHouseModel$VersionTransModel", name := "least", desc := "()I" } : Jvm.MethodName)) ∈ lw_all := lw_g (lw_at lw_m32 105 rfl) rfl
theorem q8024 : (Jvm.Cond.selects "KnowHouseModel$VersionTransModel" ({ cls := "KnowHouseModel$VersionTransModel", name := "least", desc := "()I" } : Jvm.MethodName) ({ cls := "KnowHouseModel$VersionTransModel", name := "least", desc := "()I" } : Jvm.MethodName)) ∈ lw_all := lw_g (lw_at lw_m32 106 rfl) rfl
theorem q8025 : (Jvm.Cond.code ({ cls := "KnowHouseModel$VersionTransModel", name := "least", desc := "()I" } : Jvm.MethodName) prog_89_method_11_code (1 : Nat) (Option.some Jvm.ClassFile.FieldType.int)) ∈ lw_all := lw_g (lw_at lw_m32 107 rfl) rfl
theorem q8026 : (Jvm.Cond.methodLink "KnowHouseModel" (772 : Nat) ({ cls := "KnowHouseModel$VersionTransModel", name := "state", desc := "(I)I" } : Jvm.MethodName)) ∈ lw_all := lw_g (lw_at lw_m32 108 rfl) rfl
theorem q8027 : (Jvm.Cond.instanceMethod ({ cls := "KnowHouseModel$VersionTransModel", name := "state", desc := "(I)I" } : Jvm.MethodName)) ∈ lw_all := lw_g (lw_at lw_m32 109 rfl) rfl
theorem q8028 : (Jvm.Cond.selects "KnowHouseModel$VersionTransModel" ({ cls := "KnowHouseModel$VersionTransModel", name := "state", desc := "(I)I" } : Jvm.MethodName) ({ cls := "KnowHouseModel$VersionTransModel", name := "state", desc := "(I)I" } : Jvm.MethodName)) ∈ lw_all := lw_g (lw_at lw_m32 110 rfl) rfl
theorem q8029 : (Jvm.Cond.code ({ cls := "KnowHouseModel$VersionTransModel", name := "state", desc := "(I)I" } : Jvm.MethodName) prog_89_method_22_code (2 : Nat) (Option.some Jvm.ClassFile.FieldType.int)) ∈ lw_all := lw_g (lw_at lw_m32 111 rfl) rfl
theorem q8030 : (Jvm.Cond.methodLink "KnowHouseModel" (775 : Nat) ({ cls := "KnowHouseModel$VersionTransModel", name := "waits", desc := "(I)I" } : Jvm.MethodName)) ∈ lw_all := lw_g (lw_at lw_m32 112 rfl) rfl
theorem q8031 : (Jvm.Cond.instanceMethod ({ cls := "KnowHouseModel$VersionTransModel", name := "waits", desc := "(I)I" } : Jvm.MethodName)) ∈ lw_all := lw_g (lw_at lw_m32 113 rfl) rfl
theorem q8032 : (Jvm.Cond.selects "KnowHouseModel$VersionTransModel" ({ cls := "KnowHouseModel$VersionTransModel", name := "waits", desc := "(I)I" } : Jvm.MethodName) ({ cls := "KnowHouseModel$VersionTransModel", name := "waits", desc := "(I)I" } : Jvm.MethodName)) ∈ lw_all := lw_g (lw_at lw_m32 114 rfl) rfl
theorem q8033 : (Jvm.Cond.code ({ cls := "KnowHouseModel$VersionTransModel", name := "waits", desc := "(I)I" } : Jvm.MethodName) prog_89_method_23_code (2 : Nat) (Option.some Jvm.ClassFile.FieldType.int)) ∈ lw_all := lw_g (lw_at lw_m32 115 rfl) rfl
theorem q8034 : (Jvm.Cond.methodLink "KnowHouseModel" (778 : Nat) ({ cls := "KnowHouseModel$VersionTransModel", name := "ring", desc := "(I)I" } : Jvm.MethodName)) ∈ lw_all := lw_g (lw_at lw_m32 116 rfl) rfl
theorem q8035 : (Jvm.Cond.instanceMethod ({ cls := "KnowHouseModel$VersionTransModel", name := "ring", desc := "(I)I" } : Jvm.MethodName)) ∈ lw_all := lw_g (lw_at lw_m32 117 rfl) rfl
theorem q8036 : (Jvm.Cond.selects "KnowHouseModel$VersionTransModel" ({ cls := "KnowHouseModel$VersionTransModel", name := "ring", desc := "(I)I" } : Jvm.MethodName) ({ cls := "KnowHouseModel$VersionTransModel", name := "ring", desc := "(I)I" } : Jvm.MethodName)) ∈ lw_all := lw_g (lw_at lw_m32 118 rfl) rfl
theorem q8037 : (Jvm.Cond.code ({ cls := "KnowHouseModel$VersionTransModel", name := "ring", desc := "(I)I" } : Jvm.MethodName) prog_89_method_37_code (2 : Nat) (Option.some Jvm.ClassFile.FieldType.int)) ∈ lw_all := lw_g (lw_at lw_m32 119 rfl) rfl
theorem q8038 : (Jvm.Cond.methodLink "KnowHouseModel" (781 : Nat) ({ cls := "KnowHouseModel$VersionTransModel", name := "conflicts", desc := "(II)I" } : Jvm.MethodName)) ∈ lw_all := lw_g (lw_at lw_m32 120 rfl) rfl
theorem q8039 : (Jvm.Cond.instanceMethod ({ cls := "KnowHouseModel$VersionTransModel", name := "conflicts", desc := "(II)I" } : Jvm.MethodName)) ∈ lw_all := lw_g (lw_at lw_m32 121 rfl) rfl
theorem q8040 : (Jvm.Cond.selects "KnowHouseModel$VersionTransModel" ({ cls := "KnowHouseModel$VersionTransModel", name := "conflicts", desc := "(II)I" } : Jvm.MethodName) ({ cls := "KnowHouseModel$VersionTransModel", name := "conflicts", desc := "(II)I" } : Jvm.MethodName)) ∈ lw_all := lw_g (lw_at lw_m32 122 rfl) rfl
theorem q8041 : (Jvm.Cond.code ({ cls := "KnowHouseModel$VersionTransModel", name := "conflicts", desc := "(II)I" } : Jvm.MethodName) prog_89_method_38_code (3 : Nat) (Option.some Jvm.ClassFile.FieldType.int)) ∈ lw_all := lw_g (lw_at lw_m32 123 rfl) rfl
theorem q8042 : (Jvm.Cond.methodLink "KnowHouseModel" (663 : Nat) ({ cls := "KnowHouseModel", name := "valuesCall", desc := "(I)J" } : Jvm.MethodName)) ∈ lw_all := lw_g (lw_at lw_m32 124 rfl) rfl
theorem q8044 : (Jvm.Cond.instanceMethod ({ cls := "KnowHouseModel", name := "valuesCall", desc := "(I)J" } : Jvm.MethodName)) ∈ lw_all := lw_g (lw_at lw_m32 126 rfl) rfl
theorem q8045 : (Jvm.Cond.code ({ cls := "KnowHouseModel", name := "valuesCall", desc := "(I)J" } : Jvm.MethodName) prog_78_method_37_code (2 : Nat) (Option.some Jvm.ClassFile.FieldType.long)) ∈ lw_all := lw_g (lw_at lw_m32 127 rfl) rfl
theorem q8046 : (Jvm.Cond.methodLink "KnowHouseModel" (784 : Nat) ({ cls := "KnowHouseModel$DatatypeValuesModel", name := "type", desc := "(JI)I" } : Jvm.MethodName)) ∈ lw_all := lw_g (lw_at lw_m32 128 rfl) rfl
theorem q8047 : (Jvm.Cond.instanceMethod ({ cls := "KnowHouseModel$DatatypeValuesModel", name := "type", desc := "(JI)I" } : Jvm.MethodName)) ∈ lw_all := lw_g (lw_at lw_m32 129 rfl) rfl
theorem q8048 : (Jvm.Cond.selects "KnowHouseModel$DatatypeValuesModel" ({ cls := "KnowHouseModel$DatatypeValuesModel", name := "type", desc := "(JI)I" } : Jvm.MethodName) ({ cls := "KnowHouseModel$DatatypeValuesModel", name := "type", desc := "(JI)I" } : Jvm.MethodName)) ∈ lw_all := lw_g (lw_at lw_m32 130 rfl) rfl
theorem q8049 : (Jvm.Cond.code ({ cls := "KnowHouseModel$DatatypeValuesModel", name := "type", desc := "(JI)I" } : Jvm.MethodName) prog_82_method_3_code (5 : Nat) (Option.some Jvm.ClassFile.FieldType.int)) ∈ lw_all := lw_g (lw_at lw_m32 131 rfl) rfl
theorem q8050 : (Jvm.Cond.methodLink "KnowHouseModel" (788 : Nat) ({ cls := "KnowHouseModel$DatatypeValuesModel", name := "read", desc := "(I)I" } : Jvm.MethodName)) ∈ lw_all := lw_g (lw_at lw_m32 132 rfl) rfl
theorem q8051 : (Jvm.Cond.instanceMethod ({ cls := "KnowHouseModel$DatatypeValuesModel", name := "read", desc := "(I)I" } : Jvm.MethodName)) ∈ lw_all := lw_g (lw_at lw_m32 133 rfl) rfl
theorem q8052 : (Jvm.Cond.selects "KnowHouseModel$DatatypeValuesModel" ({ cls := "KnowHouseModel$DatatypeValuesModel", name := "read", desc := "(I)I" } : Jvm.MethodName) ({ cls := "KnowHouseModel$DatatypeValuesModel", name := "read", desc := "(I)I" } : Jvm.MethodName)) ∈ lw_all := lw_g (lw_at lw_m32 134 rfl) rfl
theorem q8053 : (Jvm.Cond.code ({ cls := "KnowHouseModel$DatatypeValuesModel", name := "read", desc := "(I)I" } : Jvm.MethodName) prog_82_method_35_code (2 : Nat) (Option.some Jvm.ClassFile.FieldType.int)) ∈ lw_all := lw_g (lw_at lw_m32 135 rfl) rfl
theorem q8189 : (Jvm.Cond.methodLink "KnowHouseModel" (790 : Nat) ({ cls := "KnowHouseModel$DatatypeValuesModel", name := "values", desc := "()I" } : Jvm.MethodName)) ∈ lw_all := lw_g (lw_at lw_m33 31 rfl) rfl
theorem q8190 : (Jvm.Cond.instanceMethod ({ cls := "KnowHouseModel$DatatypeValuesModel", name := "values", desc := "()I" } : Jvm.MethodName)) ∈ lw_all := lw_g (lw_at lw_m33 32 rfl) rfl
theorem q8191 : (Jvm.Cond.selects "KnowHouseModel$DatatypeValuesModel" ({ cls := "KnowHouseModel$DatatypeValuesModel", name := "values", desc := "()I" } : Jvm.MethodName) ({ cls := "KnowHouseModel$DatatypeValuesModel", name := "values", desc := "()I" } : Jvm.MethodName)) ∈ lw_all := lw_g (lw_at lw_m33 33 rfl) rfl
theorem q8192 : (Jvm.Cond.code ({ cls := "KnowHouseModel$DatatypeValuesModel", name := "values", desc := "()I" } : Jvm.MethodName) prog_82_method_39_code (1 : Nat) (Option.some Jvm.ClassFile.FieldType.int)) ∈ lw_all := lw_g (lw_at lw_m33 34 rfl) rfl
theorem q8193 : (Jvm.Cond.methodLink "KnowHouseModel" (792 : Nat) ({ cls := "KnowHouseModel$DatatypeValuesModel", name := "kind", desc := "(I)I" } : Jvm.MethodName)) ∈ lw_all := lw_g (lw_at lw_m33 35 rfl) rfl
theorem q8194 : (Jvm.Cond.instanceMethod ({ cls := "KnowHouseModel$DatatypeValuesModel", name := "kind", desc := "(I)I" } : Jvm.MethodName)) ∈ lw_all := lw_g (lw_at lw_m33 36 rfl) rfl
theorem q8195 : (Jvm.Cond.selects "KnowHouseModel$DatatypeValuesModel" ({ cls := "KnowHouseModel$DatatypeValuesModel", name := "kind", desc := "(I)I" } : Jvm.MethodName) ({ cls := "KnowHouseModel$DatatypeValuesModel", name := "kind", desc := "(I)I" } : Jvm.MethodName)) ∈ lw_all := lw_g (lw_at lw_m33 37 rfl) rfl
theorem q8196 : (Jvm.Cond.code ({ cls := "KnowHouseModel$DatatypeValuesModel", name := "kind", desc := "(I)I" } : Jvm.MethodName) prog_82_method_40_code (2 : Nat) (Option.some Jvm.ClassFile.FieldType.int)) ∈ lw_all := lw_g (lw_at lw_m33 38 rfl) rfl
theorem q8201 : (Jvm.Cond.methodLink "KnowHouseModel" (795 : Nat) ({ cls := "KnowHouseModel$DatatypeValuesModel", name := "compare", desc := "(II)I" } : Jvm.MethodName)) ∈ lw_all := lw_g (lw_at lw_m33 43 rfl) rfl
theorem q8202 : (Jvm.Cond.instanceMethod ({ cls := "KnowHouseModel$DatatypeValuesModel", name := "compare", desc := "(II)I" } : Jvm.MethodName)) ∈ lw_all := lw_g (lw_at lw_m33 44 rfl) rfl
theorem q8203 : (Jvm.Cond.selects "KnowHouseModel$DatatypeValuesModel" ({ cls := "KnowHouseModel$DatatypeValuesModel", name := "compare", desc := "(II)I" } : Jvm.MethodName) ({ cls := "KnowHouseModel$DatatypeValuesModel", name := "compare", desc := "(II)I" } : Jvm.MethodName)) ∈ lw_all := lw_g (lw_at lw_m33 45 rfl) rfl
theorem q8204 : (Jvm.Cond.code ({ cls := "KnowHouseModel$DatatypeValuesModel", name := "compare", desc := "(II)I" } : Jvm.MethodName) prog_82_method_50_code (3 : Nat) (Option.some Jvm.ClassFile.FieldType.int)) ∈ lw_all := lw_g (lw_at lw_m33 46 rfl) rfl
theorem q8241 : (Jvm.Cond.methodLink "KnowHouseModel" (798 : Nat) ({ cls := "KnowHouseModel$DatatypeValuesModel", name := "part", desc := "(II)J" } : Jvm.MethodName)) ∈ lw_all := lw_g (lw_at lw_m33 83 rfl) rfl
theorem q8242 : (Jvm.Cond.instanceMethod ({ cls := "KnowHouseModel$DatatypeValuesModel", name := "part", desc := "(II)J" } : Jvm.MethodName)) ∈ lw_all := lw_g (lw_at lw_m33 84 rfl) rfl
theorem q8243 : (Jvm.Cond.selects "KnowHouseModel$DatatypeValuesModel" ({ cls := "KnowHouseModel$DatatypeValuesModel", name := "part", desc := "(II)J" } : Jvm.MethodName) ({ cls := "KnowHouseModel$DatatypeValuesModel", name := "part", desc := "(II)J" } : Jvm.MethodName)) ∈ lw_all := lw_g (lw_at lw_m33 85 rfl) rfl
theorem q8244 : (Jvm.Cond.code ({ cls := "KnowHouseModel$DatatypeValuesModel", name := "part", desc := "(II)J" } : Jvm.MethodName) prog_82_method_41_code (3 : Nat) (Option.some Jvm.ClassFile.FieldType.long)) ∈ lw_all := lw_g (lw_at lw_m33 86 rfl) rfl
theorem q8245 : (Jvm.Cond.methodLink "KnowHouseModel" (801 : Nat) ({ cls := "KnowHouseModel$DatatypeValuesModel", name := "byteOf", desc := "(II)I" } : Jvm.MethodName)) ∈ lw_all := lw_g (lw_at lw_m33 87 rfl) rfl
theorem q8246 : (Jvm.Cond.instanceMethod ({ cls := "KnowHouseModel$DatatypeValuesModel", name := "byteOf", desc := "(II)I" } : Jvm.MethodName)) ∈ lw_all := lw_g (lw_at lw_m33 88 rfl) rfl
theorem q8247 : (Jvm.Cond.selects "KnowHouseModel$DatatypeValuesModel" ({ cls := "KnowHouseModel$DatatypeValuesModel", name := "byteOf", desc := "(II)I" } : Jvm.MethodName) ({ cls := "KnowHouseModel$DatatypeValuesModel", name := "byteOf", desc := "(II)I" } : Jvm.MethodName)) ∈ lw_all := lw_g (lw_at lw_m33 89 rfl) rfl
theorem q8248 : (Jvm.Cond.code ({ cls := "KnowHouseModel$DatatypeValuesModel", name := "byteOf", desc := "(II)I" } : Jvm.MethodName) prog_82_method_44_code (3 : Nat) (Option.some Jvm.ClassFile.FieldType.int)) ∈ lw_all := lw_g (lw_at lw_m33 90 rfl) rfl
theorem q8249 : (Jvm.Cond.methodLink "KnowHouseModel" (804 : Nat) ({ cls := "KnowHouseModel$DatatypeValuesModel", name := "tell", desc := "(I)I" } : Jvm.MethodName)) ∈ lw_all := lw_g (lw_at lw_m33 91 rfl) rfl
theorem q8250 : (Jvm.Cond.instanceMethod ({ cls := "KnowHouseModel$DatatypeValuesModel", name := "tell", desc := "(I)I" } : Jvm.MethodName)) ∈ lw_all := lw_g (lw_at lw_m33 92 rfl) rfl
theorem q8251 : (Jvm.Cond.selects "KnowHouseModel$DatatypeValuesModel" ({ cls := "KnowHouseModel$DatatypeValuesModel", name := "tell", desc := "(I)I" } : Jvm.MethodName) ({ cls := "KnowHouseModel$DatatypeValuesModel", name := "tell", desc := "(I)I" } : Jvm.MethodName)) ∈ lw_all := lw_g (lw_at lw_m33 93 rfl) rfl
theorem q8252 : (Jvm.Cond.code ({ cls := "KnowHouseModel$DatatypeValuesModel", name := "tell", desc := "(I)I" } : Jvm.MethodName) prog_82_method_61_code (2 : Nat) (Option.some Jvm.ClassFile.FieldType.int)) ∈ lw_all := lw_g (lw_at lw_m33 94 rfl) rfl
theorem q8293 : (Jvm.Cond.methodLink "KnowHouseModel" (807 : Nat) ({ cls := "KnowHouseModel$DatatypeValuesModel", name := "told", desc := "(I)I" } : Jvm.MethodName)) ∈ lw_all := lw_g (lw_at lw_m33 135 rfl) rfl
theorem q8294 : (Jvm.Cond.instanceMethod ({ cls := "KnowHouseModel$DatatypeValuesModel", name := "told", desc := "(I)I" } : Jvm.MethodName)) ∈ lw_all := lw_g (lw_at lw_m33 136 rfl) rfl
theorem q8295 : (Jvm.Cond.selects "KnowHouseModel$DatatypeValuesModel" ({ cls := "KnowHouseModel$DatatypeValuesModel", name := "told", desc := "(I)I" } : Jvm.MethodName) ({ cls := "KnowHouseModel$DatatypeValuesModel", name := "told", desc := "(I)I" } : Jvm.MethodName)) ∈ lw_all := lw_g (lw_at lw_m33 137 rfl) rfl
theorem q8296 : (Jvm.Cond.code ({ cls := "KnowHouseModel$DatatypeValuesModel", name := "told", desc := "(I)I" } : Jvm.MethodName) prog_82_method_62_code (2 : Nat) (Option.some Jvm.ClassFile.FieldType.int)) ∈ lw_all := lw_g (lw_at lw_m33 138 rfl) rfl
theorem q8297 : (Jvm.Cond.methodLink "KnowHouseModel" (809 : Nat) ({ cls := "KnowHouseModel$DatatypeValuesModel", name := "apply", desc := "(III)I" } : Jvm.MethodName)) ∈ lw_all := lw_g (lw_at lw_m33 139 rfl) rfl
theorem q8298 : (Jvm.Cond.instanceMethod ({ cls := "KnowHouseModel$DatatypeValuesModel", name := "apply", desc := "(III)I" } : Jvm.MethodName)) ∈ lw_all := lw_g (lw_at lw_m33 140 rfl) rfl
theorem q8299 : (Jvm.Cond.selects "KnowHouseModel$DatatypeValuesModel" ({ cls := "KnowHouseModel$DatatypeValuesModel", name := "apply", desc := "(III)I" } : Jvm.MethodName) ({ cls := "KnowHouseModel$DatatypeValuesModel", name := "apply", desc := "(III)I" } : Jvm.MethodName)) ∈ lw_all := lw_g (lw_at lw_m33 141 rfl) rfl
theorem q8300 : (Jvm.Cond.code ({ cls := "KnowHouseModel$DatatypeValuesModel", name := "apply", desc := "(III)I" } : Jvm.MethodName) prog_82_method_67_code (5 : Nat) (Option.some Jvm.ClassFile.FieldType.int)) ∈ lw_all := lw_g (lw_at lw_m33 142 rfl) rfl
theorem q8321 : (Jvm.Cond.methodLink "KnowHouseModel" (666 : Nat) ({ cls := "KnowHouseModel", name := "proofsCall", desc := "(I)J" } : Jvm.MethodName)) ∈ lw_all := lw_g (lw_at lw_m33 163 rfl) rfl
theorem q8323 : (Jvm.Cond.instanceMethod ({ cls := "KnowHouseModel", name := "proofsCall", desc := "(I)J" } : Jvm.MethodName)) ∈ lw_all := lw_g (lw_at lw_m33 165 rfl) rfl
theorem q8324 : (Jvm.Cond.code ({ cls := "KnowHouseModel", name := "proofsCall", desc := "(I)J" } : Jvm.MethodName) prog_78_method_38_code (2 : Nat) (Option.some Jvm.ClassFile.FieldType.long)) ∈ lw_all := lw_g (lw_at lw_m33 166 rfl) rfl
theorem q8325 : (Jvm.Cond.methodLink "KnowHouseModel" (812 : Nat) ({ cls := "KnowHouseModel$ProofCheckerModel", name := "axiom", desc := "(III)I" } : Jvm.MethodName)) ∈ lw_all := lw_g (lw_at lw_m33 167 rfl) rfl
theorem q8326 : (Jvm.Cond.instanceMethod ({ cls := "KnowHouseModel$ProofCheckerModel", name := "axiom", desc := "(III)I" } : Jvm.MethodName)) ∈ lw_all := lw_g (lw_at lw_m33 168 rfl) rfl
theorem q8327 : (Jvm.Cond.selects "KnowHouseModel$ProofCheckerModel" ({ cls := "KnowHouseModel$ProofCheckerModel", name := "axiom", desc := "(III)I" } : Jvm.MethodName) ({ cls := "KnowHouseModel$ProofCheckerModel", name := "axiom", desc := "(III)I" } : Jvm.MethodName)) ∈ lw_all := lw_g (lw_at lw_m33 169 rfl) rfl
theorem q8328 : (Jvm.Cond.code ({ cls := "KnowHouseModel$ProofCheckerModel", name := "axiom", desc := "(III)I" } : Jvm.MethodName) prog_85_method_3_code (5 : Nat) (Option.some Jvm.ClassFile.FieldType.int)) ∈ lw_all := lw_g (lw_at lw_m33 170 rfl) rfl
theorem q8332 : (Jvm.Cond.methodLink "KnowHouseModel" (813 : Nat) ({ cls := "KnowHouseModel$ProofCheckerModel", name := "triple", desc := "(III)I" } : Jvm.MethodName)) ∈ lw_all := lw_g (lw_at lw_m33 174 rfl) rfl
theorem q8333 : (Jvm.Cond.instanceMethod ({ cls := "KnowHouseModel$ProofCheckerModel", name := "triple", desc := "(III)I" } : Jvm.MethodName)) ∈ lw_all := lw_g (lw_at lw_m33 175 rfl) rfl
theorem q8334 : (Jvm.Cond.selects "KnowHouseModel$ProofCheckerModel" ({ cls := "KnowHouseModel$ProofCheckerModel", name := "triple", desc := "(III)I" } : Jvm.MethodName) ({ cls := "KnowHouseModel$ProofCheckerModel", name := "triple", desc := "(III)I" } : Jvm.MethodName)) ∈ lw_all := lw_g (lw_at lw_m33 176 rfl) rfl
theorem q8335 : (Jvm.Cond.code ({ cls := "KnowHouseModel$ProofCheckerModel", name := "triple", desc := "(III)I" } : Jvm.MethodName) prog_85_method_4_code (5 : Nat) (Option.some Jvm.ClassFile.FieldType.int)) ∈ lw_all := lw_g (lw_at lw_m33 177 rfl) rfl
theorem q8336 : (Jvm.Cond.methodLink "KnowHouseModel" (814 : Nat) ({ cls := "KnowHouseModel$ProofCheckerModel", name := "row", desc := "(III)I" } : Jvm.MethodName)) ∈ lw_all := lw_g (lw_at lw_m33 178 rfl) rfl
theorem q8337 : (Jvm.Cond.instanceMethod ({ cls := "KnowHouseModel$ProofCheckerModel", name := "row", desc := "(III)I" } : Jvm.MethodName)) ∈ lw_all := lw_g (lw_at lw_m33 179 rfl) rfl
theorem q8338 : (Jvm.Cond.selects "KnowHouseModel$ProofCheckerModel" ({ cls := "KnowHouseModel$ProofCheckerModel", name := "row", desc := "(III)I" } : Jvm.MethodName) ({ cls := "KnowHouseModel$ProofCheckerModel", name := "row", desc := "(III)I" } : Jvm.MethodName)) ∈ lw_all := lw_g (lw_at lw_m33 180 rfl) rfl
theorem q8339 : (Jvm.Cond.code ({ cls := "KnowHouseModel$ProofCheckerModel", name := "row", desc := "(III)I" } : Jvm.MethodName) prog_85_method_8_code (4 : Nat) (Option.some Jvm.ClassFile.FieldType.int)) ∈ lw_all := lw_g (lw_at lw_m33 181 rfl) rfl
theorem q8355 : (Jvm.Cond.methodLink "KnowHouseModel" (815 : Nat) ({ cls := "KnowHouseModel$ProofCheckerModel", name := "premise", desc := "(II)I" } : Jvm.MethodName)) ∈ lw_all := lw_g (lw_at lw_m33 197 rfl) rfl
theorem q8356 : (Jvm.Cond.instanceMethod ({ cls := "KnowHouseModel$ProofCheckerModel", name := "premise", desc := "(II)I" } : Jvm.MethodName)) ∈ lw_all := lw_g (lw_at lw_m33 198 rfl) rfl
theorem q8357 : (Jvm.Cond.selects "KnowHouseModel$ProofCheckerModel" ({ cls := "KnowHouseModel$ProofCheckerModel", name := "premise", desc := "(II)I" } : Jvm.MethodName) ({ cls := "KnowHouseModel$ProofCheckerModel", name := "premise", desc := "(II)I" } : Jvm.MethodName)) ∈ lw_all := lw_g (lw_at lw_m33 199 rfl) rfl
theorem q8358 : (Jvm.Cond.code ({ cls := "KnowHouseModel$ProofCheckerModel", name := "premise", desc := "(II)I" } : Jvm.MethodName) prog_85_method_10_code (3 : Nat) (Option.some Jvm.ClassFile.FieldType.int)) ∈ lw_all := lw_g (lw_at lw_m33 200 rfl) rfl
theorem q8359 : (Jvm.Cond.methodLink "KnowHouseModel" (818 : Nat) ({ cls := "KnowHouseModel$ProofCheckerModel", name := "check", desc := "(I)I" } : Jvm.MethodName)) ∈ lw_all := lw_g (lw_at lw_m33 201 rfl) rfl
theorem q8360 : (Jvm.Cond.instanceMethod ({ cls := "KnowHouseModel$ProofCheckerModel", name := "check", desc := "(I)I" } : Jvm.MethodName)) ∈ lw_all := lw_g (lw_at lw_m33 202 rfl) rfl
theorem q8361 : (Jvm.Cond.selects "KnowHouseModel$ProofCheckerModel" ({ cls := "KnowHouseModel$ProofCheckerModel", name := "check", desc := "(I)I" } : Jvm.MethodName) ({ cls := "KnowHouseModel$ProofCheckerModel", name := "check", desc := "(I)I" } : Jvm.MethodName)) ∈ lw_all := lw_g (lw_at lw_m33 203 rfl) rfl
theorem q8362 : (Jvm.Cond.code ({ cls := "KnowHouseModel$ProofCheckerModel", name := "check", desc := "(I)I" } : Jvm.MethodName) prog_85_method_21_code (5 : Nat) (Option.some Jvm.ClassFile.FieldType.int)) ∈ lw_all := lw_g (lw_at lw_m33 204 rfl) rfl
theorem q8403 : (Jvm.Cond.methodLink "KnowHouseModel" (821 : Nat) ({ cls := "KnowHouseModel$ProofCheckerModel", name := "broken", desc := "()I" } : Jvm.MethodName)) ∈ lw_all := lw_g (lw_at lw_m34 5 rfl) rfl
theorem q8404 : (Jvm.Cond.instanceMethod ({ cls := "KnowHouseModel$ProofCheckerModel", name := "broken", desc := "()I" } : Jvm.MethodName)) ∈ lw_all := lw_g (lw_at lw_m34 6 rfl) rfl
theorem q8405 : (Jvm.Cond.selects "KnowHouseModel$ProofCheckerModel" ({ cls := "KnowHouseModel$ProofCheckerModel", name := "broken", desc := "()I" } : Jvm.MethodName) ({ cls := "KnowHouseModel$ProofCheckerModel", name := "broken", desc := "()I" } : Jvm.MethodName)) ∈ lw_all := lw_g (lw_at lw_m34 7 rfl) rfl
theorem q8406 : (Jvm.Cond.code ({ cls := "KnowHouseModel$ProofCheckerModel", name := "broken", desc := "()I" } : Jvm.MethodName) prog_85_method_22_code (1 : Nat) (Option.some Jvm.ClassFile.FieldType.int)) ∈ lw_all := lw_g (lw_at lw_m34 8 rfl) rfl
theorem q8407 : (Jvm.Cond.methodLink "KnowHouseModel" (824 : Nat) ({ cls := "KnowHouseModel$ProofCheckerModel", name := "rows", desc := "(I)I" } : Jvm.MethodName)) ∈ lw_all := lw_g (lw_at lw_m34 9 rfl) rfl
theorem q8408 : (Jvm.Cond.instanceMethod ({ cls := "KnowHouseModel$ProofCheckerModel", name := "rows", desc := "(I)I" } : Jvm.MethodName)) ∈ lw_all := lw_g (lw_at lw_m34 10 rfl) rfl
theorem q8409 : (Jvm.Cond.selects "KnowHouseModel$ProofCheckerModel" ({ cls := "KnowHouseModel$ProofCheckerModel", name := "rows", desc := "(I)I" } : Jvm.MethodName) ({ cls := "KnowHouseModel$ProofCheckerModel", name := "rows", desc := "(I)I" } : Jvm.MethodName)) ∈ lw_all := lw_g (lw_at lw_m34 11 rfl) rfl
theorem q8410 : (Jvm.Cond.code ({ cls := "KnowHouseModel$ProofCheckerModel", name := "rows", desc := "(I)I" } : Jvm.MethodName) prog_85_method_23_code (2 : Nat) (Option.some Jvm.ClassFile.FieldType.int)) ∈ lw_all := lw_g (lw_at lw_m34 12 rfl) rfl
theorem q8411 : (Jvm.Cond.methodLink "KnowHouseModel" (826 : Nat) ({ cls := "KnowHouseModel$ProofCheckerModel", name := "size", desc := "(I)I" } : Jvm.MethodName)) ∈ lw_all := lw_g (lw_at lw_m34 13 rfl) rfl
theorem q8412 : (Jvm.Cond.instanceMethod ({ cls := "KnowHouseModel$ProofCheckerModel", name := "size", desc := "(I)I" } : Jvm.MethodName)) ∈ lw_all := lw_g (lw_at lw_m34 14 rfl) rfl
theorem q8413 : (Jvm.Cond.selects "KnowHouseModel$ProofCheckerModel" ({ cls := "KnowHouseModel$ProofCheckerModel", name := "size", desc := "(I)I" } : Jvm.MethodName) ({ cls := "KnowHouseModel$ProofCheckerModel", name := "size", desc := "(I)I" } : Jvm.MethodName)) ∈ lw_all := lw_g (lw_at lw_m34 15 rfl) rfl
theorem q8414 : (Jvm.Cond.code ({ cls := "KnowHouseModel$ProofCheckerModel", name := "size", desc := "(I)I" } : Jvm.MethodName) prog_85_method_24_code (6 : Nat) (Option.some Jvm.ClassFile.FieldType.int)) ∈ lw_all := lw_g (lw_at lw_m34 16 rfl) rfl
theorem q8417 : (Jvm.Cond.methodLink "KnowHouseModel" (828 : Nat) ({ cls := "KnowHouseModel$ProofCheckerModel", name := "drop", desc := "(I)I" } : Jvm.MethodName)) ∈ lw_all := lw_g (lw_at lw_m34 19 rfl) rfl
theorem q8418 : (Jvm.Cond.instanceMethod ({ cls := "KnowHouseModel$ProofCheckerModel", name := "drop", desc := "(I)I" } : Jvm.MethodName)) ∈ lw_all := lw_g (lw_at lw_m34 20 rfl) rfl
theorem q8419 : (Jvm.Cond.selects "KnowHouseModel$ProofCheckerModel" ({ cls := "KnowHouseModel$ProofCheckerModel", name := "drop", desc := "(I)I" } : Jvm.MethodName) ({ cls := "KnowHouseModel$ProofCheckerModel", name := "drop", desc := "(I)I" } : Jvm.MethodName)) ∈ lw_all := lw_g (lw_at lw_m34 21 rfl) rfl
theorem q8420 : (Jvm.Cond.code ({ cls := "KnowHouseModel$ProofCheckerModel", name := "drop", desc := "(I)I" } : Jvm.MethodName) prog_85_method_25_code (6 : Nat) (Option.some Jvm.ClassFile.FieldType.int)) ∈ lw_all := lw_g (lw_at lw_m34 22 rfl) rfl
theorem q8421 : (Jvm.Cond.methodLink "KnowHouseModel" (830 : Nat) ({ cls := "KnowHouseModel$ProofCheckerModel", name := "name", desc := "(I)I" } : Jvm.MethodName)) ∈ lw_all := lw_g (lw_at lw_m34 23 rfl) rfl
theorem q8422 : (Jvm.Cond.instanceMethod ({ cls := "KnowHouseModel$ProofCheckerModel", name := "name", desc := "(I)I" } : Jvm.MethodName)) ∈ lw_all := lw_g (lw_at lw_m34 24 rfl) rfl
theorem q8423 : (Jvm.Cond.selects "KnowHouseModel$ProofCheckerModel" ({ cls := "KnowHouseModel$ProofCheckerModel", name := "name", desc := "(I)I" } : Jvm.MethodName) ({ cls := "KnowHouseModel$ProofCheckerModel", name := "name", desc := "(I)I" } : Jvm.MethodName)) ∈ lw_all := lw_g (lw_at lw_m34 25 rfl) rfl
theorem q8424 : (Jvm.Cond.code ({ cls := "KnowHouseModel$ProofCheckerModel", name := "name", desc := "(I)I" } : Jvm.MethodName) prog_85_method_26_code (2 : Nat) (Option.some Jvm.ClassFile.FieldType.int)) ∈ lw_all := lw_g (lw_at lw_m34 26 rfl) rfl
theorem q8425 : (Jvm.Cond.methodLink "KnowHouseModel" (832 : Nat) ({ cls := "KnowHouseModel$ProofCheckerModel", name := "states", desc := "(II)I" } : Jvm.MethodName)) ∈ lw_all := lw_g (lw_at lw_m34 27 rfl) rfl
theorem q8426 : (Jvm.Cond.instanceMethod ({ cls := "KnowHouseModel$ProofCheckerModel", name := "states", desc := "(II)I" } : Jvm.MethodName)) ∈ lw_all := lw_g (lw_at lw_m34 28 rfl) rfl
theorem q8427 : (Jvm.Cond.selects "KnowHouseModel$ProofCheckerModel" ({ cls := "KnowHouseModel$ProofCheckerModel", name := "states", desc := "(II)I" } : Jvm.MethodName) ({ cls := "KnowHouseModel$ProofCheckerModel", name := "states", desc := "(II)I" } : Jvm.MethodName)) ∈ lw_all := lw_g (lw_at lw_m34 29 rfl) rfl
theorem q8428 : (Jvm.Cond.code ({ cls := "KnowHouseModel$ProofCheckerModel", name := "states", desc := "(II)I" } : Jvm.MethodName) prog_85_method_27_code (3 : Nat) (Option.some Jvm.ClassFile.FieldType.int)) ∈ lw_all := lw_g (lw_at lw_m34 30 rfl) rfl
theorem q8429 : (Jvm.Cond.methodLink "KnowHouseModel" (835 : Nat) ({ cls := "KnowHouseModel$ProofCheckerModel", name := "sentence", desc := "(I)I" } : Jvm.MethodName)) ∈ lw_all := lw_g (lw_at lw_m34 31 rfl) rfl
theorem q8430 : (Jvm.Cond.instanceMethod ({ cls := "KnowHouseModel$ProofCheckerModel", name := "sentence", desc := "(I)I" } : Jvm.MethodName)) ∈ lw_all := lw_g (lw_at lw_m34 32 rfl) rfl
theorem q8431 : (Jvm.Cond.selects "KnowHouseModel$ProofCheckerModel" ({ cls := "KnowHouseModel$ProofCheckerModel", name := "sentence", desc := "(I)I" } : Jvm.MethodName) ({ cls := "KnowHouseModel$ProofCheckerModel", name := "sentence", desc := "(I)I" } : Jvm.MethodName)) ∈ lw_all := lw_g (lw_at lw_m34 33 rfl) rfl
theorem q8432 : (Jvm.Cond.code ({ cls := "KnowHouseModel$ProofCheckerModel", name := "sentence", desc := "(I)I" } : Jvm.MethodName) prog_85_method_33_code (3 : Nat) (Option.some Jvm.ClassFile.FieldType.int)) ∈ lw_all := lw_g (lw_at lw_m34 34 rfl) rfl
theorem q8449 : (Jvm.Cond.methodLink "KnowHouseModel" (838 : Nat) ({ cls := "KnowHouseModel$ProofCheckerModel", name := "at", desc := "(I)I" } : Jvm.MethodName)) ∈ lw_all := lw_g (lw_at lw_m34 51 rfl) rfl
theorem q8450 : (Jvm.Cond.instanceMethod ({ cls := "KnowHouseModel$ProofCheckerModel", name := "at", desc := "(I)I" } : Jvm.MethodName)) ∈ lw_all := lw_g (lw_at lw_m34 52 rfl) rfl
theorem q8451 : (Jvm.Cond.selects "KnowHouseModel$ProofCheckerModel" ({ cls := "KnowHouseModel$ProofCheckerModel", name := "at", desc := "(I)I" } : Jvm.MethodName) ({ cls := "KnowHouseModel$ProofCheckerModel", name := "at", desc := "(I)I" } : Jvm.MethodName)) ∈ lw_all := lw_g (lw_at lw_m34 53 rfl) rfl
theorem q8452 : (Jvm.Cond.code ({ cls := "KnowHouseModel$ProofCheckerModel", name := "at", desc := "(I)I" } : Jvm.MethodName) prog_85_method_34_code (2 : Nat) (Option.some Jvm.ClassFile.FieldType.int)) ∈ lw_all := lw_g (lw_at lw_m34 54 rfl) rfl
theorem q8453 : (Jvm.Cond.methodLink "KnowHouseModel" (841 : Nat) ({ cls := "KnowHouseModel$ProofCheckerModel", name := "concludes", desc := "(II)Z" } : Jvm.MethodName)) ∈ lw_all := lw_g (lw_at lw_m34 55 rfl) rfl
theorem q8454 : (Jvm.Cond.instanceMethod ({ cls := "KnowHouseModel$ProofCheckerModel", name := "concludes", desc := "(II)Z" } : Jvm.MethodName)) ∈ lw_all := lw_g (lw_at lw_m34 56 rfl) rfl
theorem q8455 : (Jvm.Cond.selects "KnowHouseModel$ProofCheckerModel" ({ cls := "KnowHouseModel$ProofCheckerModel", name := "concludes", desc := "(II)Z" } : Jvm.MethodName) ({ cls := "KnowHouseModel$ProofCheckerModel", name := "concludes", desc := "(II)Z" } : Jvm.MethodName)) ∈ lw_all := lw_g (lw_at lw_m34 57 rfl) rfl
theorem q8456 : (Jvm.Cond.code ({ cls := "KnowHouseModel$ProofCheckerModel", name := "concludes", desc := "(II)Z" } : Jvm.MethodName) prog_85_method_28_code (5 : Nat) (Option.some Jvm.ClassFile.FieldType.boolean)) ∈ lw_all := lw_g (lw_at lw_m34 58 rfl) rfl
theorem q8457 : (Jvm.Cond.methodLink "KnowHouseModel" (669 : Nat) ({ cls := "KnowHouseModel", name := "rightsCall", desc := "(I)J" } : Jvm.MethodName)) ∈ lw_all := lw_g (lw_at lw_m34 59 rfl) rfl
theorem q8459 : (Jvm.Cond.instanceMethod ({ cls := "KnowHouseModel", name := "rightsCall", desc := "(I)J" } : Jvm.MethodName)) ∈ lw_all := lw_g (lw_at lw_m34 61 rfl) rfl
theorem q8460 : (Jvm.Cond.code ({ cls := "KnowHouseModel", name := "rightsCall", desc := "(I)J" } : Jvm.MethodName) prog_78_method_39_code (2 : Nat) (Option.some Jvm.ClassFile.FieldType.long)) ∈ lw_all := lw_g (lw_at lw_m34 62 rfl) rfl
theorem q8461 : (Jvm.Cond.methodLink "KnowHouseModel" (844 : Nat) ({ cls := "KnowHouseModel$RightDeskModel", name := "member", desc := "(IIZ)I" } : Jvm.MethodName)) ∈ lw_all := lw_g (lw_at lw_m34 63 rfl) rfl
theorem q8462 : (Jvm.Cond.instanceMethod ({ cls := "KnowHouseModel$RightDeskModel", name := "member", desc := "(IIZ)I" } : Jvm.MethodName)) ∈ lw_all := lw_g (lw_at lw_m34 64 rfl) rfl
theorem q8463 : (Jvm.Cond.selects "KnowHouseModel$RightDeskModel" ({ cls := "KnowHouseModel$RightDeskModel", name := "member", desc := "(IIZ)I" } : Jvm.MethodName) ({ cls := "KnowHouseModel$RightDeskModel", name := "member", desc := "(IIZ)I" } : Jvm.MethodName)) ∈ lw_all := lw_g (lw_at lw_m34 65 rfl) rfl
theorem q8464 : (Jvm.Cond.code ({ cls := "KnowHouseModel$RightDeskModel", name := "member", desc := "(IIZ)I" } : Jvm.MethodName) prog_87_method_3_code (5 : Nat) (Option.some Jvm.ClassFile.FieldType.int)) ∈ lw_all := lw_g (lw_at lw_m34 66 rfl) rfl
theorem q8465 : (Jvm.Cond.methodLink "KnowHouseModel" (847 : Nat) ({ cls := "KnowHouseModel$RightDeskModel", name := "condition", desc := "(IIII)I" } : Jvm.MethodName)) ∈ lw_all := lw_g (lw_at lw_m34 67 rfl) rfl
theorem q8466 : (Jvm.Cond.instanceMethod ({ cls := "KnowHouseModel$RightDeskModel", name := "condition", desc := "(IIII)I" } : Jvm.MethodName)) ∈ lw_all := lw_g (lw_at lw_m34 68 rfl) rfl
theorem q8467 : (Jvm.Cond.selects "KnowHouseModel$RightDeskModel" ({ cls := "KnowHouseModel$RightDeskModel", name := "condition", desc := "(IIII)I" } : Jvm.MethodName) ({ cls := "KnowHouseModel$RightDeskModel", name := "condition", desc := "(IIII)I" } : Jvm.MethodName)) ∈ lw_all := lw_g (lw_at lw_m34 69 rfl) rfl
theorem q8468 : (Jvm.Cond.code ({ cls := "KnowHouseModel$RightDeskModel", name := "condition", desc := "(IIII)I" } : Jvm.MethodName) prog_87_method_5_code (5 : Nat) (Option.some Jvm.ClassFile.FieldType.int)) ∈ lw_all := lw_g (lw_at lw_m34 70 rfl) rfl
theorem q8473 : (Jvm.Cond.methodLink "KnowHouseModel" (851 : Nat) ({ cls := "KnowHouseModel$RightDeskModel", name := "rule", desc := "(IZI)I" } : Jvm.MethodName)) ∈ lw_all := lw_g (lw_at lw_m34 75 rfl) rfl
theorem q8474 : (Jvm.Cond.instanceMethod ({ cls := "KnowHouseModel$RightDeskModel", name := "rule", desc := "(IZI)I" } : Jvm.MethodName)) ∈ lw_all := lw_g (lw_at lw_m34 76 rfl) rfl
theorem q8475 : (Jvm.Cond.selects "KnowHouseModel$RightDeskModel" ({ cls := "KnowHouseModel$RightDeskModel", name := "rule", desc := "(IZI)I" } : Jvm.MethodName) ({ cls := "KnowHouseModel$RightDeskModel", name := "rule", desc := "(IZI)I" } : Jvm.MethodName)) ∈ lw_all := lw_g (lw_at lw_m34 77 rfl) rfl
theorem q8476 : (Jvm.Cond.code ({ cls := "KnowHouseModel$RightDeskModel", name := "rule", desc := "(IZI)I" } : Jvm.MethodName) prog_87_method_6_code (4 : Nat) (Option.some Jvm.ClassFile.FieldType.int)) ∈ lw_all := lw_g (lw_at lw_m34 78 rfl) rfl
theorem q8477 : (Jvm.Cond.methodLink "KnowHouseModel" (855 : Nat) ({ cls := "KnowHouseModel$RightDeskModel", name := "drop", desc := "(I)I" } : Jvm.MethodName)) ∈ lw_all := lw_g (lw_at lw_m34 79 rfl) rfl
theorem q8478 : (Jvm.Cond.instanceMethod ({ cls := "KnowHouseModel$RightDeskModel", name := "drop", desc := "(I)I" } : Jvm.MethodName)) ∈ lw_all := lw_g (lw_at lw_m34 80 rfl) rfl
theorem q8479 : (Jvm.Cond.selects "KnowHouseModel$RightDeskModel" ({ cls := "KnowHouseModel$RightDeskModel", name := "drop", desc := "(I)I" } : Jvm.MethodName) ({ cls := "KnowHouseModel$RightDeskModel", name := "drop", desc := "(I)I" } : Jvm.MethodName)) ∈ lw_all := lw_g (lw_at lw_m34 81 rfl) rfl
theorem q8480 : (Jvm.Cond.code ({ cls := "KnowHouseModel$RightDeskModel", name := "drop", desc := "(I)I" } : Jvm.MethodName) prog_87_method_7_code (3 : Nat) (Option.some Jvm.ClassFile.FieldType.int)) ∈ lw_all := lw_g (lw_at lw_m34 82 rfl) rfl
theorem q8481 : (Jvm.Cond.methodLink "KnowHouseModel" (856 : Nat) ({ cls := "KnowHouseModel$RightDeskModel", name := "asks", desc := "(I)I" } : Jvm.MethodName)) ∈ lw_all := lw_g (lw_at lw_m34 83 rfl) rfl
theorem q8482 : (Jvm.Cond.instanceMethod ({ cls := "KnowHouseModel$RightDeskModel", name := "asks", desc := "(I)I" } : Jvm.MethodName)) ∈ lw_all := lw_g (lw_at lw_m34 84 rfl) rfl
theorem q8483 : (Jvm.Cond.selects "KnowHouseModel$RightDeskModel" ({ cls := "KnowHouseModel$RightDeskModel", name := "asks", desc := "(I)I" } : Jvm.MethodName) ({ cls := "KnowHouseModel$RightDeskModel", name := "asks", desc := "(I)I" } : Jvm.MethodName)) ∈ lw_all := lw_g (lw_at lw_m34 85 rfl) rfl
theorem q8484 : (Jvm.Cond.code ({ cls := "KnowHouseModel$RightDeskModel", name := "asks", desc := "(I)I" } : Jvm.MethodName) prog_87_method_16_code (4 : Nat) (Option.some Jvm.ClassFile.FieldType.int)) ∈ lw_all := lw_g (lw_at lw_m34 86 rfl) rfl
theorem q8489 : (Jvm.Cond.methodLink "KnowHouseModel" (859 : Nat) ({ cls := "KnowHouseModel$RightDeskModel", name := "ask", desc := "(II)I" } : Jvm.MethodName)) ∈ lw_all := lw_g (lw_at lw_m34 91 rfl) rfl
theorem q8490 : (Jvm.Cond.instanceMethod ({ cls := "KnowHouseModel$RightDeskModel", name := "ask", desc := "(II)I" } : Jvm.MethodName)) ∈ lw_all := lw_g (lw_at lw_m34 92 rfl) rfl
theorem q8491 : (Jvm.Cond.selects "KnowHouseModel$RightDeskModel" ({ cls := "KnowHouseModel$RightDeskModel", name := "ask", desc := "(II)I" } : Jvm.MethodName) ({ cls := "KnowHouseModel$RightDeskModel", name := "ask", desc := "(II)I" } : Jvm.MethodName)) ∈ lw_all := lw_g (lw_at lw_m34 93 rfl) rfl
theorem q8492 : (Jvm.Cond.code ({ cls := "KnowHouseModel$RightDeskModel", name := "ask", desc := "(II)I" } : Jvm.MethodName) prog_87_method_17_code (5 : Nat) (Option.some Jvm.ClassFile.FieldType.int)) ∈ lw_all := lw_g (lw_at lw_m34 94 rfl) rfl
theorem q8493 : (Jvm.Cond.methodLink "KnowHouseModel" (862 : Nat) ({ cls := "KnowHouseModel$RightDeskModel", name := "within", desc := "(II)I" } : Jvm.MethodName)) ∈ lw_all := lw_g (lw_at lw_m34 95 rfl) rfl
theorem q8494 : (Jvm.Cond.instanceMethod ({ cls := "KnowHouseModel$RightDeskModel", name := "within", desc := "(II)I" } : Jvm.MethodName)) ∈ lw_all := lw_g (lw_at lw_m34 96 rfl) rfl
theorem q8495 : (Jvm.Cond.selects "KnowHouseModel$RightDeskModel" ({ cls := "KnowHouseModel$RightDeskModel", name := "within", desc := "(II)I" } : Jvm.MethodName) ({ cls := "KnowHouseModel$RightDeskModel", name := "within", desc := "(II)I" } : Jvm.MethodName)) ∈ lw_all := lw_g (lw_at lw_m34 97 rfl) rfl
theorem q8496 : (Jvm.Cond.code ({ cls := "KnowHouseModel$RightDeskModel", name := "within", desc := "(II)I" } : Jvm.MethodName) prog_87_method_18_code (4 : Nat) (Option.some Jvm.ClassFile.FieldType.int)) ∈ lw_all := lw_g (lw_at lw_m34 98 rfl) rfl
theorem q8497 : (Jvm.Cond.methodLink "KnowHouseModel" (865 : Nat) ({ cls := "KnowHouseModel$RightDeskModel", name := "decides", desc := "(I)I" } : Jvm.MethodName)) ∈ lw_all := lw_g (lw_at lw_m34 99 rfl) rfl
theorem q8498 : (Jvm.Cond.instanceMethod ({ cls := "KnowHouseModel$RightDeskModel", name := "decides", desc := "(I)I" } : Jvm.MethodName)) ∈ lw_all := lw_g (lw_at lw_m34 100 rfl) rfl
theorem q8499 : (Jvm.Cond.selects "KnowHouseModel$RightDeskModel" ({ cls := "KnowHouseModel$RightDeskModel", name := "decides", desc := "(I)I" } : Jvm.MethodName) ({ cls := "KnowHouseModel$RightDeskModel", name := "decides", desc := "(I)I" } : Jvm.MethodName)) ∈ lw_all := lw_g (lw_at lw_m34 101 rfl) rfl
theorem q8500 : (Jvm.Cond.code ({ cls := "KnowHouseModel$RightDeskModel", name := "decides", desc := "(I)I" } : Jvm.MethodName) prog_87_method_19_code (4 : Nat) (Option.some Jvm.ClassFile.FieldType.int)) ∈ lw_all := lw_g (lw_at lw_m34 102 rfl) rfl
theorem q8501 : (Jvm.Cond.methodLink "KnowHouseModel" (868 : Nat) ({ cls := "KnowHouseModel$RightDeskModel", name := "sees", desc := "(II)I" } : Jvm.MethodName)) ∈ lw_all := lw_g (lw_at lw_m34 103 rfl) rfl
theorem q8502 : (Jvm.Cond.instanceMethod ({ cls := "KnowHouseModel$RightDeskModel", name := "sees", desc := "(II)I" } : Jvm.MethodName)) ∈ lw_all := lw_g (lw_at lw_m34 104 rfl) rfl
theorem q8503 : (Jvm.Cond.selects "KnowHouseModel$RightDeskModel" ({ cls := "KnowHouseModel$RightDeskModel", name := "sees", desc := "(II)I" } : Jvm.MethodName) ({ cls := "KnowHouseModel$RightDeskModel", name := "sees", desc := "(II)I" } : Jvm.MethodName)) ∈ lw_all := lw_g (lw_at lw_m34 105 rfl) rfl
theorem q8504 : (Jvm.Cond.code ({ cls := "KnowHouseModel$RightDeskModel", name := "sees", desc := "(II)I" } : Jvm.MethodName) prog_87_method_20_code (5 : Nat) (Option.some Jvm.ClassFile.FieldType.int)) ∈ lw_all := lw_g (lw_at lw_m34 106 rfl) rfl
theorem q8509 : (Jvm.Cond.methodLink "KnowHouseModel" (871 : Nat) ({ cls := "KnowHouseModel$RightDeskModel", name := "matters", desc := "(I)I" } : Jvm.MethodName)) ∈ lw_all := lw_g (lw_at lw_m34 111 rfl) rfl
theorem q8510 : (Jvm.Cond.instanceMethod ({ cls := "KnowHouseModel$RightDeskModel", name := "matters", desc := "(I)I" } : Jvm.MethodName)) ∈ lw_all := lw_g (lw_at lw_m34 112 rfl) rfl
theorem q8511 : (Jvm.Cond.selects "KnowHouseModel$RightDeskModel" ({ cls := "KnowHouseModel$RightDeskModel", name := "matters", desc := "(I)I" } : Jvm.MethodName) ({ cls := "KnowHouseModel$RightDeskModel", name := "matters", desc := "(I)I" } : Jvm.MethodName)) ∈ lw_all := lw_g (lw_at lw_m34 113 rfl) rfl
theorem q8512 : (Jvm.Cond.code ({ cls := "KnowHouseModel$RightDeskModel", name := "matters", desc := "(I)I" } : Jvm.MethodName) prog_87_method_21_code (4 : Nat) (Option.some Jvm.ClassFile.FieldType.int)) ∈ lw_all := lw_g (lw_at lw_m34 114 rfl) rfl
theorem q8513 : (Jvm.Cond.methodLink "KnowHouseModel" (874 : Nat) ({ cls := "KnowHouseModel$RightDeskModel", name := "idle", desc := "(ZI)I" } : Jvm.MethodName)) ∈ lw_all := lw_g (lw_at lw_m34 115 rfl) rfl
theorem q8514 : (Jvm.Cond.instanceMethod ({ cls := "KnowHouseModel$RightDeskModel", name := "idle", desc := "(ZI)I" } : Jvm.MethodName)) ∈ lw_all := lw_g (lw_at lw_m34 116 rfl) rfl
theorem q8515 : (Jvm.Cond.selects "KnowHouseModel$RightDeskModel" ({ cls := "KnowHouseModel$RightDeskModel", name := "idle", desc := "(ZI)I" } : Jvm.MethodName) ({ cls := "KnowHouseModel$RightDeskModel", name := "idle", desc := "(ZI)I" } : Jvm.MethodName)) ∈ lw_all := lw_g (lw_at lw_m34 117 rfl) rfl
theorem q8516 : (Jvm.Cond.code ({ cls := "KnowHouseModel$RightDeskModel", name := "idle", desc := "(ZI)I" } : Jvm.MethodName) prog_87_method_23_code (6 : Nat) (Option.some Jvm.ClassFile.FieldType.int)) ∈ lw_all := lw_g (lw_at lw_m34 118 rfl) rfl
theorem q8521 : (Jvm.Cond.methodLink "KnowHouseModel" (878 : Nat) ({ cls := "KnowHouseModel$RightDeskModel", name := "apart", desc := "(II)I" } : Jvm.MethodName)) ∈ lw_all := lw_g (lw_at lw_m34 123 rfl) rfl
theorem q8522 : (Jvm.Cond.instanceMethod ({ cls := "KnowHouseModel$RightDeskModel", name := "apart", desc := "(II)I" } : Jvm.MethodName)) ∈ lw_all := lw_g (lw_at lw_m34 124 rfl) rfl
theorem q8523 : (Jvm.Cond.selects "KnowHouseModel$RightDeskModel" ({ cls := "KnowHouseModel$RightDeskModel", name := "apart", desc := "(II)I" } : Jvm.MethodName) ({ cls := "KnowHouseModel$RightDeskModel", name := "apart", desc := "(II)I" } : Jvm.MethodName)) ∈ lw_all := lw_g (lw_at lw_m34 125 rfl) rfl
theorem q8524 : (Jvm.Cond.code ({ cls := "KnowHouseModel$RightDeskModel", name := "apart", desc := "(II)I" } : Jvm.MethodName) prog_87_method_24_code (4 : Nat) (Option.some Jvm.ClassFile.FieldType.int)) ∈ lw_all := lw_g (lw_at lw_m34 126 rfl) rfl
theorem q8525 : (Jvm.Cond.methodLink "KnowHouseModel" (881 : Nat) ({ cls := "KnowHouseModel$RightDeskModel", name := "allowed", desc := "()I" } : Jvm.MethodName)) ∈ lw_all := lw_g (lw_at lw_m34 127 rfl) rfl
theorem q8526 : (Jvm.Cond.instanceMethod ({ cls := "KnowHouseModel$RightDeskModel", name := "allowed", desc := "()I" } : Jvm.MethodName)) ∈ lw_all := lw_g (lw_at lw_m34 128 rfl) rfl
theorem q8527 : (Jvm.Cond.selects "KnowHouseModel$RightDeskModel" ({ cls := "KnowHouseModel$RightDeskModel", name := "allowed", desc := "()I" } : Jvm.MethodName) ({ cls := "KnowHouseModel$RightDeskModel", name := "allowed", desc := "()I" } : Jvm.MethodName)) ∈ lw_all := lw_g (lw_at lw_m34 129 rfl) rfl
theorem q8528 : (Jvm.Cond.code ({ cls := "KnowHouseModel$RightDeskModel", name := "allowed", desc := "()I" } : Jvm.MethodName) prog_87_method_25_code (3 : Nat) (Option.some Jvm.ClassFile.FieldType.int)) ∈ lw_all := lw_g (lw_at lw_m34 130 rfl) rfl
theorem q8529 : (Jvm.Cond.methodLink "KnowHouseModel" (884 : Nat) ({ cls := "KnowHouseModel$RightDeskModel", name := "conditions", desc := "()I" } : Jvm.MethodName)) ∈ lw_all := lw_g (lw_at lw_m34 131 rfl) rfl
theorem q8530 : (Jvm.Cond.instanceMethod ({ cls := "KnowHouseModel$RightDeskModel", name := "conditions", desc := "()I" } : Jvm.MethodName)) ∈ lw_all := lw_g (lw_at lw_m34 132 rfl) rfl
theorem q8531 : (Jvm.Cond.selects "KnowHouseModel$RightDeskModel" ({ cls := "KnowHouseModel$RightDeskModel", name := "conditions", desc := "()I" } : Jvm.MethodName) ({ cls := "KnowHouseModel$RightDeskModel", name := "conditions", desc := "()I" } : Jvm.MethodName)) ∈ lw_all := lw_g (lw_at lw_m34 133 rfl) rfl
theorem q8532 : (Jvm.Cond.code ({ cls := "KnowHouseModel$RightDeskModel", name := "conditions", desc := "()I" } : Jvm.MethodName) prog_87_method_26_code (1 : Nat) (Option.some Jvm.ClassFile.FieldType.int)) ∈ lw_all := lw_g (lw_at lw_m34 134 rfl) rfl
theorem q8533 : (Jvm.Cond.methodLink "KnowHouseModel" (887 : Nat) ({ cls := "KnowHouseModel$RightDeskModel", name := "rules", desc := "()I" } : Jvm.MethodName)) ∈ lw_all := lw_g (lw_at lw_m34 135 rfl) rfl
theorem q8534 : (Jvm.Cond.instanceMethod ({ cls := "KnowHouseModel$RightDeskModel", name := "rules", desc := "()I" } : Jvm.MethodName)) ∈ lw_all := lw_g (lw_at lw_m34 136 rfl) rfl
theorem q8535 : (Jvm.Cond.selects "KnowHouseModel$RightDeskModel" ({ cls := "KnowHouseModel$RightDeskModel", name := "rules", desc := "()I" } : Jvm.MethodName) ({ cls := "KnowHouseModel$RightDeskModel", name := "rules", desc := "()I" } : Jvm.MethodName)) ∈ lw_all := lw_g (lw_at lw_m34 137 rfl) rfl
theorem q8536 : (Jvm.Cond.code ({ cls := "KnowHouseModel$RightDeskModel", name := "rules", desc := "()I" } : Jvm.MethodName) prog_87_method_27_code (1 : Nat) (Option.some Jvm.ClassFile.FieldType.int)) ∈ lw_all := lw_g (lw_at lw_m34 138 rfl) rfl
theorem q8537 : (Jvm.Cond.methodLink "KnowHouseModel" (672 : Nat) ({ cls := "KnowHouseModel", name := "classesCall", desc := "(I)J" } : Jvm.MethodName)) ∈ lw_all := lw_g (lw_at lw_m34 139 rfl) rfl
theorem q8539 : (Jvm.Cond.instanceMethod ({ cls := "KnowHouseModel", name := "classesCall", desc := "(I)J" } : Jvm.MethodName)) ∈ lw_all := lw_g (lw_at lw_m34 141 rfl) rfl
theorem q8540 : (Jvm.Cond.code ({ cls := "KnowHouseModel", name := "classesCall", desc := "(I)J" } : Jvm.MethodName) prog_78_method_40_code (2 : Nat) (Option.some Jvm.ClassFile.FieldType.long)) ∈ lw_all := lw_g (lw_at lw_m34 142 rfl) rfl
theorem q8541 : (Jvm.Cond.methodLink "KnowHouseModel" (889 : Nat) ({ cls := "KnowHouseModel$ClassifySortModel", name := "class0", desc := "()I" } : Jvm.MethodName)) ∈ lw_all := lw_g (lw_at lw_m34 143 rfl) rfl
theorem q8542 : (Jvm.Cond.instanceMethod ({ cls := "KnowHouseModel$ClassifySortModel", name := "class0", desc := "()I" } : Jvm.MethodName)) ∈ lw_all := lw_g (lw_at lw_m34 144 rfl) rfl
theorem q8543 : (Jvm.Cond.selects "KnowHouseModel$ClassifySortModel" ({ cls := "KnowHouseModel$ClassifySortModel", name := "class0", desc := "()I" } : Jvm.MethodName) ({ cls := "KnowHouseModel$ClassifySortModel", name := "class0", desc := "()I" } : Jvm.MethodName)) ∈ lw_all := lw_g (lw_at lw_m34 145 rfl) rfl
theorem q8544 : (Jvm.Cond.code ({ cls := "KnowHouseModel$ClassifySortModel", name := "class0", desc := "()I" } : Jvm.MethodName) prog_81_method_15_code (1 : Nat) (Option.some Jvm.ClassFile.FieldType.int)) ∈ lw_all := lw_g (lw_at lw_m34 146 rfl) rfl
theorem q8545 : (Jvm.Cond.methodLink "KnowHouseModel" (892 : Nat) ({ cls := "KnowHouseModel$ClassifySortModel", name := "thing", desc := "()I" } : Jvm.MethodName)) ∈ lw_all := lw_g (lw_at lw_m34 147 rfl) rfl
theorem q8546 : (Jvm.Cond.instanceMethod ({ cls := "KnowHouseModel$ClassifySortModel", name := "thing", desc := "()I" } : Jvm.MethodName)) ∈ lw_all := lw_g (lw_at lw_m34 148 rfl) rfl
theorem q8547 : (Jvm.Cond.selects "KnowHouseModel$ClassifySortModel" ({ cls := "KnowHouseModel$ClassifySortModel", name := "thing", desc := "()I" } : Jvm.MethodName) ({ cls := "KnowHouseModel$ClassifySortModel", name := "thing", desc := "()I" } : Jvm.MethodName)) ∈ lw_all := lw_g (lw_at lw_m34 149 rfl) rfl
theorem q8548 : (Jvm.Cond.code ({ cls := "KnowHouseModel$ClassifySortModel", name := "thing", desc := "()I" } : Jvm.MethodName) prog_81_method_16_code (1 : Nat) (Option.some Jvm.ClassFile.FieldType.int)) ∈ lw_all := lw_g (lw_at lw_m34 150 rfl) rfl
theorem q8549 : (Jvm.Cond.methodLink "KnowHouseModel" (894 : Nat) ({ cls := "KnowHouseModel$ClassifySortModel", name := "remove", desc := "(I)I" } : Jvm.MethodName)) ∈ lw_all := lw_g (lw_at lw_m34 151 rfl) rfl
theorem q8550 : (Jvm.Cond.instanceMethod ({ cls := "KnowHouseModel$ClassifySortModel", name := "remove", desc := "(I)I" } : Jvm.MethodName)) ∈ lw_all := lw_g (lw_at lw_m34 152 rfl) rfl
theorem q8551 : (Jvm.Cond.selects "KnowHouseModel$ClassifySortModel" ({ cls := "KnowHouseModel$ClassifySortModel", name := "remove", desc := "(I)I" } : Jvm.MethodName) ({ cls := "KnowHouseModel$ClassifySortModel", name := "remove", desc := "(I)I" } : Jvm.MethodName)) ∈ lw_all := lw_g (lw_at lw_m34 153 rfl) rfl
theorem q8552 : (Jvm.Cond.code ({ cls := "KnowHouseModel$ClassifySortModel", name := "remove", desc := "(I)I" } : Jvm.MethodName) prog_81_method_20_code (4 : Nat) (Option.some Jvm.ClassFile.FieldType.int)) ∈ lw_all := lw_g (lw_at lw_m34 154 rfl) rfl
theorem q8553 : (Jvm.Cond.methodLink "KnowHouseModel" (896 : Nat) ({ cls := "KnowHouseModel$ClassifySortModel", name := "fuel", desc := "(I)I" } : Jvm.MethodName)) ∈ lw_all := lw_g (lw_at lw_m34 155 rfl) rfl
theorem q8554 : (Jvm.Cond.instanceMethod ({ cls := "KnowHouseModel$ClassifySortModel", name := "fuel", desc := "(I)I" } : Jvm.MethodName)) ∈ lw_all := lw_g (lw_at lw_m34 156 rfl) rfl
theorem q8555 : (Jvm.Cond.selects "KnowHouseModel$ClassifySortModel" ({ cls := "KnowHouseModel$ClassifySortModel", name := "fuel", desc := "(I)I" } : Jvm.MethodName) ({ cls := "KnowHouseModel$ClassifySortModel", name := "fuel", desc := "(I)I" } : Jvm.MethodName)) ∈ lw_all := lw_g (lw_at lw_m34 157 rfl) rfl
theorem q8556 : (Jvm.Cond.code ({ cls := "KnowHouseModel$ClassifySortModel", name := "fuel", desc := "(I)I" } : Jvm.MethodName) prog_81_method_22_code (4 : Nat) (Option.some Jvm.ClassFile.FieldType.int)) ∈ lw_all := lw_g (lw_at lw_m34 158 rfl) rfl
theorem q8557 : (Jvm.Cond.methodLink "KnowHouseModel" (899 : Nat) ({ cls := "KnowHouseModel$ClassifySortModel", name := "known", desc := "(II)I" } : Jvm.MethodName)) ∈ lw_all := lw_g (lw_at lw_m34 159 rfl) rfl
theorem q8558 : (Jvm.Cond.instanceMethod ({ cls := "KnowHouseModel$ClassifySortModel", name := "known", desc := "(II)I" } : Jvm.MethodName)) ∈ lw_all := lw_g (lw_at lw_m34 160 rfl) rfl
theorem q8559 : (Jvm.Cond.selects "KnowHouseModel$ClassifySortModel" ({ cls := "KnowHouseModel$ClassifySortModel", name := "known", desc := "(II)I" } : Jvm.MethodName) ({ cls := "KnowHouseModel$ClassifySortModel", name := "known", desc := "(II)I" } : Jvm.MethodName)) ∈ lw_all := lw_g (lw_at lw_m34 161 rfl) rfl
theorem q8560 : (Jvm.Cond.code ({ cls := "KnowHouseModel$ClassifySortModel", name := "known", desc := "(II)I" } : Jvm.MethodName) prog_81_method_23_code (4 : Nat) (Option.some Jvm.ClassFile.FieldType.int)) ∈ lw_all := lw_g (lw_at lw_m34 162 rfl) rfl
theorem q8565 : (Jvm.Cond.methodLink "KnowHouseModel" (902 : Nat) ({ cls := "KnowHouseModel$ClassifySortModel", name := "ask", desc := "(II)I" } : Jvm.MethodName)) ∈ lw_all := lw_g (lw_at lw_m34 167 rfl) rfl
theorem q8566 : (Jvm.Cond.instanceMethod ({ cls := "KnowHouseModel$ClassifySortModel", name := "ask", desc := "(II)I" } : Jvm.MethodName)) ∈ lw_all := lw_g (lw_at lw_m34 168 rfl) rfl
theorem q8567 : (Jvm.Cond.selects "KnowHouseModel$ClassifySortModel" ({ cls := "KnowHouseModel$ClassifySortModel", name := "ask", desc := "(II)I" } : Jvm.MethodName) ({ cls := "KnowHouseModel$ClassifySortModel", name := "ask", desc := "(II)I" } : Jvm.MethodName)) ∈ lw_all := lw_g (lw_at lw_m34 169 rfl) rfl
theorem q8568 : (Jvm.Cond.code ({ cls := "KnowHouseModel$ClassifySortModel", name := "ask", desc := "(II)I" } : Jvm.MethodName) prog_81_method_24_code (4 : Nat) (Option.some Jvm.ClassFile.FieldType.int)) ∈ lw_all := lw_g (lw_at lw_m34 170 rfl) rfl
theorem q8569 : (Jvm.Cond.methodLink "KnowHouseModel" (903 : Nat) ({ cls := "KnowHouseModel$ClassifySortModel", name := "child", desc := "(II)I" } : Jvm.MethodName)) ∈ lw_all := lw_g (lw_at lw_m34 171 rfl) rfl
theorem q8570 : (Jvm.Cond.instanceMethod ({ cls := "KnowHouseModel$ClassifySortModel", name := "child", desc := "(II)I" } : Jvm.MethodName)) ∈ lw_all := lw_g (lw_at lw_m34 172 rfl) rfl
theorem q8571 : (Jvm.Cond.selects "KnowHouseModel$ClassifySortModel" ({ cls := "KnowHouseModel$ClassifySortModel", name := "child", desc := "(II)I" } : Jvm.MethodName) ({ cls := "KnowHouseModel$ClassifySortModel", name := "child", desc := "(II)I" } : Jvm.MethodName)) ∈ lw_all := lw_g (lw_at lw_m34 173 rfl) rfl
theorem q8572 : (Jvm.Cond.code ({ cls := "KnowHouseModel$ClassifySortModel", name := "child", desc := "(II)I" } : Jvm.MethodName) prog_81_method_34_code (6 : Nat) (Option.some Jvm.ClassFile.FieldType.int)) ∈ lw_all := lw_g (lw_at lw_m34 174 rfl) rfl
theorem q8573 : (Jvm.Cond.methodLink "KnowHouseModel" (906 : Nat) ({ cls := "KnowHouseModel$ClassifySortModel", name := "equal", desc := "(II)I" } : Jvm.MethodName)) ∈ lw_all := lw_g (lw_at lw_m34 175 rfl) rfl
theorem q8574 : (Jvm.Cond.instanceMethod ({ cls := "KnowHouseModel$ClassifySortModel", name := "equal", desc := "(II)I" } : Jvm.MethodName)) ∈ lw_all := lw_g (lw_at lw_m34 176 rfl) rfl
theorem q8575 : (Jvm.Cond.selects "KnowHouseModel$ClassifySortModel" ({ cls := "KnowHouseModel$ClassifySortModel", name := "equal", desc := "(II)I" } : Jvm.MethodName) ({ cls := "KnowHouseModel$ClassifySortModel", name := "equal", desc := "(II)I" } : Jvm.MethodName)) ∈ lw_all := lw_g (lw_at lw_m34 177 rfl) rfl
theorem q8576 : (Jvm.Cond.code ({ cls := "KnowHouseModel$ClassifySortModel", name := "equal", desc := "(II)I" } : Jvm.MethodName) prog_81_method_35_code (6 : Nat) (Option.some Jvm.ClassFile.FieldType.int)) ∈ lw_all := lw_g (lw_at lw_m34 178 rfl) rfl
theorem q8577 : (Jvm.Cond.methodLink "KnowHouseModel" (908 : Nat) ({ cls := "KnowHouseModel$ClassifySortModel", name := "empty", desc := "(I)I" } : Jvm.MethodName)) ∈ lw_all := lw_g (lw_at lw_m34 179 rfl) rfl
theorem q8578 : (Jvm.Cond.instanceMethod ({ cls := "KnowHouseModel$ClassifySortModel", name := "empty", desc := "(I)I" } : Jvm.MethodName)) ∈ lw_all := lw_g (lw_at lw_m34 180 rfl) rfl
theorem q8579 : (Jvm.Cond.selects "KnowHouseModel$ClassifySortModel" ({ cls := "KnowHouseModel$ClassifySortModel", name := "empty", desc := "(I)I" } : Jvm.MethodName) ({ cls := "KnowHouseModel$ClassifySortModel", name := "empty", desc := "(I)I" } : Jvm.MethodName)) ∈ lw_all := lw_g (lw_at lw_m34 181 rfl) rfl
theorem q8580 : (Jvm.Cond.code ({ cls := "KnowHouseModel$ClassifySortModel", name := "empty", desc := "(I)I" } : Jvm.MethodName) prog_81_method_36_code (4 : Nat) (Option.some Jvm.ClassFile.FieldType.int)) ∈ lw_all := lw_g (lw_at lw_m34 182 rfl) rfl
theorem q8581 : (Jvm.Cond.methodLink "KnowHouseModel" (911 : Nat) ({ cls := "KnowHouseModel$ClassifySortModel", name := "open", desc := "(I)I" } : Jvm.MethodName)) ∈ lw_all := lw_g (lw_at lw_m34 183 rfl) rfl
theorem q8582 : (Jvm.Cond.instanceMethod ({ cls := "KnowHouseModel$ClassifySortModel", name := "open", desc := "(I)I" } : Jvm.MethodName)) ∈ lw_all := lw_g (lw_at lw_m34 184 rfl) rfl
theorem q8583 : (Jvm.Cond.selects "KnowHouseModel$ClassifySortModel" ({ cls := "KnowHouseModel$ClassifySortModel", name := "open", desc := "(I)I" } : Jvm.MethodName) ({ cls := "KnowHouseModel$ClassifySortModel", name := "open", desc := "(I)I" } : Jvm.MethodName)) ∈ lw_all := lw_g (lw_at lw_m34 185 rfl) rfl
theorem q8584 : (Jvm.Cond.code ({ cls := "KnowHouseModel$ClassifySortModel", name := "open", desc := "(I)I" } : Jvm.MethodName) prog_81_method_37_code (5 : Nat) (Option.some Jvm.ClassFile.FieldType.int)) ∈ lw_all := lw_g (lw_at lw_m34 186 rfl) rfl
theorem q8585 : (Jvm.Cond.methodLink "KnowHouseModel" (914 : Nat) ({ cls := "KnowHouseModel$ClassifySortModel", name := "type", desc := "(II)I" } : Jvm.MethodName)) ∈ lw_all := lw_g (lw_at lw_m34 187 rfl) rfl
theorem q8586 : (Jvm.Cond.instanceMethod ({ cls := "KnowHouseModel$ClassifySortModel", name := "type", desc := "(II)I" } : Jvm.MethodName)) ∈ lw_all := lw_g (lw_at lw_m34 188 rfl) rfl
theorem q8587 : (Jvm.Cond.selects "KnowHouseModel$ClassifySortModel" ({ cls := "KnowHouseModel$ClassifySortModel", name := "type", desc := "(II)I" } : Jvm.MethodName) ({ cls := "KnowHouseModel$ClassifySortModel", name := "type", desc := "(II)I" } : Jvm.MethodName)) ∈ lw_all := lw_g (lw_at lw_m34 189 rfl) rfl
theorem q8588 : (Jvm.Cond.code ({ cls := "KnowHouseModel$ClassifySortModel", name := "type", desc := "(II)I" } : Jvm.MethodName) prog_81_method_40_code (7 : Nat) (Option.some Jvm.ClassFile.FieldType.int)) ∈ lw_all := lw_g (lw_at lw_m34 190 rfl) rfl
theorem q8597 : (Jvm.Cond.methodLink "KnowHouseModel" (916 : Nat) ({ cls := "KnowHouseModel$ClassifySortModel", name := "trace", desc := "(III)I" } : Jvm.MethodName)) ∈ lw_all := lw_g (lw_at lw_m34 199 rfl) rfl
theorem q8598 : (Jvm.Cond.instanceMethod ({ cls := "KnowHouseModel$ClassifySortModel", name := "trace", desc := "(III)I" } : Jvm.MethodName)) ∈ lw_all := lw_g (lw_at lw_m34 200 rfl) rfl
theorem q8599 : (Jvm.Cond.selects "KnowHouseModel$ClassifySortModel" ({ cls := "KnowHouseModel$ClassifySortModel", name := "trace", desc := "(III)I" } : Jvm.MethodName) ({ cls := "KnowHouseModel$ClassifySortModel", name := "trace", desc := "(III)I" } : Jvm.MethodName)) ∈ lw_all := lw_g (lw_at lw_m34 201 rfl) rfl
theorem q8600 : (Jvm.Cond.code ({ cls := "KnowHouseModel$ClassifySortModel", name := "trace", desc := "(III)I" } : Jvm.MethodName) prog_81_method_41_code (8 : Nat) (Option.some Jvm.ClassFile.FieldType.int)) ∈ lw_all := lw_g (lw_at lw_m34 202 rfl) rfl
theorem q8601 : (Jvm.Cond.methodLink "KnowHouseModel" (675 : Nat) ({ cls := "KnowHouseModel", name := "facetsCall", desc := "(I)J" } : Jvm.MethodName)) ∈ lw_all := lw_g (lw_at lw_m34 203 rfl) rfl
theorem q8603 : (Jvm.Cond.instanceMethod ({ cls := "KnowHouseModel", name := "facetsCall", desc := "(I)J" } : Jvm.MethodName)) ∈ lw_all := lw_g (lw_at lw_m34 205 rfl) rfl
theorem q8604 : (Jvm.Cond.code ({ cls := "KnowHouseModel", name := "facetsCall", desc := "(I)J" } : Jvm.MethodName) prog_78_method_41_code (2 : Nat) (Option.some Jvm.ClassFile.FieldType.long)) ∈ lw_all := lw_g (lw_at lw_m34 206 rfl) rfl
theorem q8605 : (Jvm.Cond.methodLink "KnowHouseModel" (919 : Nat) ({ cls := "KnowHouseModel$FacetCountsModel", name := "choose", desc := "(IIZ)I" } : Jvm.MethodName)) ∈ lw_all := lw_g (lw_at lw_m34 207 rfl) rfl
theorem q8606 : (Jvm.Cond.instanceMethod ({ cls := "KnowHouseModel$FacetCountsModel", name := "choose", desc := "(IIZ)I" } : Jvm.MethodName)) ∈ lw_all := lw_g (lw_at lw_m34 208 rfl) rfl
theorem q8607 : (Jvm.Cond.selects "KnowHouseModel$FacetCountsModel" ({ cls := "KnowHouseModel$FacetCountsModel", name := "choose", desc := "(IIZ)I" } : Jvm.MethodName) ({ cls := "KnowHouseModel$FacetCountsModel", name := "choose", desc := "(IIZ)I" } : Jvm.MethodName)) ∈ lw_all := lw_g (lw_at lw_m34 209 rfl) rfl
theorem q8608 : (Jvm.Cond.code ({ cls := "KnowHouseModel$FacetCountsModel", name := "choose", desc := "(IIZ)I" } : Jvm.MethodName) prog_83_method_10_code (4 : Nat) (Option.some Jvm.ClassFile.FieldType.int)) ∈ lw_all := lw_g (lw_at lw_m34 210 rfl) rfl
theorem q8609 : (Jvm.Cond.methodLink "KnowHouseModel" (922 : Nat) ({ cls := "KnowHouseModel$FacetCountsModel", name := "isKept", desc := "(I)I" } : Jvm.MethodName)) ∈ lw_all := lw_g (lw_at lw_m34 211 rfl) rfl
theorem q8610 : (Jvm.Cond.instanceMethod ({ cls := "KnowHouseModel$FacetCountsModel", name := "isKept", desc := "(I)I" } : Jvm.MethodName)) ∈ lw_all := lw_g (lw_at lw_m34 212 rfl) rfl
theorem q8611 : (Jvm.Cond.selects "KnowHouseModel$FacetCountsModel" ({ cls := "KnowHouseModel$FacetCountsModel", name := "isKept", desc := "(I)I" } : Jvm.MethodName) ({ cls := "KnowHouseModel$FacetCountsModel", name := "isKept", desc := "(I)I" } : Jvm.MethodName)) ∈ lw_all := lw_g (lw_at lw_m34 213 rfl) rfl
theorem q8612 : (Jvm.Cond.code ({ cls := "KnowHouseModel$FacetCountsModel", name := "isKept", desc := "(I)I" } : Jvm.MethodName) prog_83_method_17_code (2 : Nat) (Option.some Jvm.ClassFile.FieldType.int)) ∈ lw_all := lw_g (lw_at lw_m34 214 rfl) rfl
theorem q8613 : (Jvm.Cond.methodLink "KnowHouseModel" (925 : Nat) ({ cls := "KnowHouseModel$FacetCountsModel", name := "facet", desc := "(II)I" } : Jvm.MethodName)) ∈ lw_all := lw_g (lw_at lw_m34 215 rfl) rfl
theorem q8614 : (Jvm.Cond.instanceMethod ({ cls := "KnowHouseModel$FacetCountsModel", name := "facet", desc := "(II)I" } : Jvm.MethodName)) ∈ lw_all := lw_g (lw_at lw_m34 216 rfl) rfl
theorem q8615 : (Jvm.Cond.selects "KnowHouseModel$FacetCountsModel" ({ cls := "KnowHouseModel$FacetCountsModel", name := "facet", desc := "(II)I" } : Jvm.MethodName) ({ cls := "KnowHouseModel$FacetCountsModel", name := "facet", desc := "(II)I" } : Jvm.MethodName)) ∈ lw_all := lw_g (lw_at lw_m34 217 rfl) rfl
theorem q8616 : (Jvm.Cond.code ({ cls := "KnowHouseModel$FacetCountsModel", name := "facet", desc := "(II)I" } : Jvm.MethodName) prog_83_method_18_code (3 : Nat) (Option.some Jvm.ClassFile.FieldType.int)) ∈ lw_all := lw_g (lw_at lw_m34 218 rfl) rfl
theorem q8621 : (Jvm.Cond.methodLink "KnowHouseModel" (928 : Nat) ({ cls := "KnowHouseModel$FacetCountsModel", name := "top", desc := "(II)I" } : Jvm.MethodName)) ∈ lw_all := lw_g (lw_at lw_m34 223 rfl) rfl
theorem q8622 : (Jvm.Cond.instanceMethod ({ cls := "KnowHouseModel$FacetCountsModel", name := "top", desc := "(II)I" } : Jvm.MethodName)) ∈ lw_all := lw_g (lw_at lw_m34 224 rfl) rfl
theorem q8623 : (Jvm.Cond.selects "KnowHouseModel$FacetCountsModel" ({ cls := "KnowHouseModel$FacetCountsModel", name := "top", desc := "(II)I" } : Jvm.MethodName) ({ cls := "KnowHouseModel$FacetCountsModel", name := "top", desc := "(II)I" } : Jvm.MethodName)) ∈ lw_all := lw_g (lw_at lw_m34 225 rfl) rfl
theorem q8624 : (Jvm.Cond.code ({ cls := "KnowHouseModel$FacetCountsModel", name := "top", desc := "(II)I" } : Jvm.MethodName) prog_83_method_20_code (4 : Nat) (Option.some Jvm.ClassFile.FieldType.int)) ∈ lw_all := lw_g (lw_at lw_m34 226 rfl) rfl
theorem q8629 : (Jvm.Cond.methodLink "KnowHouseModel" (931 : Nat) ({ cls := "KnowHouseModel$FacetCountsModel", name := "range", desc := "(III)I" } : Jvm.MethodName)) ∈ lw_all := lw_g (lw_at lw_m34 231 rfl) rfl
theorem q8630 : (Jvm.Cond.instanceMethod ({ cls := "KnowHouseModel$FacetCountsModel", name := "range", desc := "(III)I" } : Jvm.MethodName)) ∈ lw_all := lw_g (lw_at lw_m34 232 rfl) rfl
theorem q8631 : (Jvm.Cond.selects "KnowHouseModel$FacetCountsModel" ({ cls := "KnowHouseModel$FacetCountsModel", name := "range", desc := "(III)I" } : Jvm.MethodName) ({ cls := "KnowHouseModel$FacetCountsModel", name := "range", desc := "(III)I" } : Jvm.MethodName)) ∈ lw_all := lw_g (lw_at lw_m34 233 rfl) rfl
theorem q8632 : (Jvm.Cond.code ({ cls := "KnowHouseModel$FacetCountsModel", name := "range", desc := "(III)I" } : Jvm.MethodName) prog_83_method_21_code (8 : Nat) (Option.some Jvm.ClassFile.FieldType.int)) ∈ lw_all := lw_g (lw_at lw_m34 234 rfl) rfl
theorem q8633 : (Jvm.Cond.methodLink "KnowHouseModel" (934 : Nat) ({ cls := "KnowHouseModel$FacetCountsModel", name := "sum", desc := "(III)I" } : Jvm.MethodName)) ∈ lw_all := lw_g (lw_at lw_m34 235 rfl) rfl
theorem q8634 : (Jvm.Cond.instanceMethod ({ cls := "KnowHouseModel$FacetCountsModel", name := "sum", desc := "(III)I" } : Jvm.MethodName)) ∈ lw_all := lw_g (lw_at lw_m34 236 rfl) rfl
theorem q8635 : (Jvm.Cond.selects "KnowHouseModel$FacetCountsModel" ({ cls := "KnowHouseModel$FacetCountsModel", name := "sum", desc := "(III)I" } : Jvm.MethodName) ({ cls := "KnowHouseModel$FacetCountsModel", name := "sum", desc := "(III)I" } : Jvm.MethodName)) ∈ lw_all := lw_g (lw_at lw_m34 237 rfl) rfl
theorem q8636 : (Jvm.Cond.code ({ cls := "KnowHouseModel$FacetCountsModel", name := "sum", desc := "(III)I" } : Jvm.MethodName) prog_83_method_22_code (7 : Nat) (Option.some Jvm.ClassFile.FieldType.int)) ∈ lw_all := lw_g (lw_at lw_m34 238 rfl) rfl
theorem q8637 : (Jvm.Cond.methodLink "KnowHouseModel" (937 : Nat) ({ cls := "KnowHouseModel$FacetCountsModel", name := "changed", desc := "()I" } : Jvm.MethodName)) ∈ lw_all := lw_g (lw_at lw_m34 239 rfl) rfl
theorem q8638 : (Jvm.Cond.instanceMethod ({ cls := "KnowHouseModel$FacetCountsModel", name := "changed", desc := "()I" } : Jvm.MethodName)) ∈ lw_all := lw_g (lw_at lw_m35 0 rfl) rfl
theorem q8639 : (Jvm.Cond.selects "KnowHouseModel$FacetCountsModel" ({ cls := "KnowHouseModel$FacetCountsModel", name := "changed", desc := "()I" } : Jvm.MethodName) ({ cls := "KnowHouseModel$FacetCountsModel", name := "changed", desc := "()I" } : Jvm.MethodName)) ∈ lw_all := lw_g (lw_at lw_m35 1 rfl) rfl
theorem q8640 : (Jvm.Cond.code ({ cls := "KnowHouseModel$FacetCountsModel", name := "changed", desc := "()I" } : Jvm.MethodName) prog_83_method_24_code (5 : Nat) (Option.some Jvm.ClassFile.FieldType.int)) ∈ lw_all := lw_g (lw_at lw_m35 2 rfl) rfl
theorem q8641 : (Jvm.Cond.methodLink "KnowHouseModel" (940 : Nat) ({ cls := "KnowHouseModel$FacetCountsModel", name := "rows", desc := "()I" } : Jvm.MethodName)) ∈ lw_all := lw_g (lw_at lw_m35 3 rfl) rfl
theorem q8642 : (Jvm.Cond.instanceMethod ({ cls := "KnowHouseModel$FacetCountsModel", name := "rows", desc := "()I" } : Jvm.MethodName)) ∈ lw_all := lw_g (lw_at lw_m35 4 rfl) rfl
theorem q8643 : (Jvm.Cond.selects "KnowHouseModel$FacetCountsModel" ({ cls := "KnowHouseModel$FacetCountsModel", name := "rows", desc := "()I" } : Jvm.MethodName) ({ cls := "KnowHouseModel$FacetCountsModel", name := "rows", desc := "()I" } : Jvm.MethodName)) ∈ lw_all := lw_g (lw_at lw_m35 5 rfl) rfl
theorem q8644 : (Jvm.Cond.code ({ cls := "KnowHouseModel$FacetCountsModel", name := "rows", desc := "()I" } : Jvm.MethodName) prog_83_method_25_code (1 : Nat) (Option.some Jvm.ClassFile.FieldType.int)) ∈ lw_all := lw_g (lw_at lw_m35 6 rfl) rfl
theorem q8645 : (Jvm.Cond.methodLink "KnowHouseModel" (678 : Nat) ({ cls := "KnowHouseModel", name := "tablesCall", desc := "(I)J" } : Jvm.MethodName)) ∈ lw_all := lw_g (lw_at lw_m35 7 rfl) rfl
theorem q8647 : (Jvm.Cond.instanceMethod ({ cls := "KnowHouseModel", name := "tablesCall", desc := "(I)J" } : Jvm.MethodName)) ∈ lw_all := lw_g (lw_at lw_m35 9 rfl) rfl
theorem q8648 : (Jvm.Cond.code ({ cls := "KnowHouseModel", name := "tablesCall", desc := "(I)J" } : Jvm.MethodName) prog_78_method_42_code (2 : Nat) (Option.some Jvm.ClassFile.FieldType.long)) ∈ lw_all := lw_g (lw_at lw_m35 10 rfl) rfl
theorem q8649 : (Jvm.Cond.methodLink "KnowHouseModel" (941 : Nat) ({ cls := "KnowHouseModel$VirtualRewriteModel", name := "key", desc := "(IIZ)I" } : Jvm.MethodName)) ∈ lw_all := lw_g (lw_at lw_m35 11 rfl) rfl
theorem q8650 : (Jvm.Cond.instanceMethod ({ cls := "KnowHouseModel$VirtualRewriteModel", name := "key", desc := "(IIZ)I" } : Jvm.MethodName)) ∈ lw_all := lw_g (lw_at lw_m35 12 rfl) rfl
theorem q8651 : (Jvm.Cond.selects "KnowHouseModel$VirtualRewriteModel" ({ cls := "KnowHouseModel$VirtualRewriteModel", name := "key", desc := "(IIZ)I" } : Jvm.MethodName) ({ cls := "KnowHouseModel$VirtualRewriteModel", name := "key", desc := "(IIZ)I" } : Jvm.MethodName)) ∈ lw_all := lw_g (lw_at lw_m35 13 rfl) rfl
theorem q8652 : (Jvm.Cond.code ({ cls := "KnowHouseModel$VirtualRewriteModel", name := "key", desc := "(IIZ)I" } : Jvm.MethodName) prog_90_method_7_code (4 : Nat) (Option.some Jvm.ClassFile.FieldType.int)) ∈ lw_all := lw_g (lw_at lw_m35 14 rfl) rfl
theorem q8657 : (Jvm.Cond.methodLink "KnowHouseModel" (944 : Nat) ({ cls := "KnowHouseModel$VirtualRewriteModel", name := "row", desc := "(IIII)I" } : Jvm.MethodName)) ∈ lw_all := lw_g (lw_at lw_m35 19 rfl) rfl
theorem q8658 : (Jvm.Cond.instanceMethod ({ cls := "KnowHouseModel$VirtualRewriteModel", name := "row", desc := "(IIII)I" } : Jvm.MethodName)) ∈ lw_all := lw_g (lw_at lw_m35 20 rfl) rfl
theorem q8659 : (Jvm.Cond.selects "KnowHouseModel$VirtualRewriteModel" ({ cls := "KnowHouseModel$VirtualRewriteModel", name := "row", desc := "(IIII)I" } : Jvm.MethodName) ({ cls := "KnowHouseModel$VirtualRewriteModel", name := "row", desc := "(IIII)I" } : Jvm.MethodName)) ∈ lw_all := lw_g (lw_at lw_m35 21 rfl) rfl
theorem q8660 : (Jvm.Cond.code ({ cls := "KnowHouseModel$VirtualRewriteModel", name := "row", desc := "(IIII)I" } : Jvm.MethodName) prog_90_method_8_code (6 : Nat) (Option.some Jvm.ClassFile.FieldType.int)) ∈ lw_all := lw_g (lw_at lw_m35 22 rfl) rfl
theorem q8665 : (Jvm.Cond.methodLink "KnowHouseModel" (946 : Nat) ({ cls := "KnowHouseModel$VirtualRewriteModel", name := "drop", desc := "(II)I" } : Jvm.MethodName)) ∈ lw_all := lw_g (lw_at lw_m35 27 rfl) rfl
theorem q8666 : (Jvm.Cond.instanceMethod ({ cls := "KnowHouseModel$VirtualRewriteModel", name := "drop", desc := "(II)I" } : Jvm.MethodName)) ∈ lw_all := lw_g (lw_at lw_m35 28 rfl) rfl
theorem q8667 : (Jvm.Cond.selects "KnowHouseModel$VirtualRewriteModel" ({ cls := "KnowHouseModel$VirtualRewriteModel", name := "drop", desc := "(II)I" } : Jvm.MethodName) ({ cls := "KnowHouseModel$VirtualRewriteModel", name := "drop", desc := "(II)I" } : Jvm.MethodName)) ∈ lw_all := lw_g (lw_at lw_m35 29 rfl) rfl
theorem q8668 : (Jvm.Cond.code ({ cls := "KnowHouseModel$VirtualRewriteModel", name := "drop", desc := "(II)I" } : Jvm.MethodName) prog_90_method_9_code (4 : Nat) (Option.some Jvm.ClassFile.FieldType.int)) ∈ lw_all := lw_g (lw_at lw_m35 30 rfl) rfl
theorem q8669 : (Jvm.Cond.methodLink "KnowHouseModel" (948 : Nat) ({ cls := "KnowHouseModel$VirtualRewriteModel", name := "mapping", desc := "(IIIIII)I" } : Jvm.MethodName)) ∈ lw_all := lw_g (lw_at lw_m35 31 rfl) rfl
theorem q8670 : (Jvm.Cond.instanceMethod ({ cls := "KnowHouseModel$VirtualRewriteModel", name := "mapping", desc := "(IIIIII)I" } : Jvm.MethodName)) ∈ lw_all := lw_g (lw_at lw_m35 32 rfl) rfl
theorem q8671 : (Jvm.Cond.selects "KnowHouseModel$VirtualRewriteModel" ({ cls := "KnowHouseModel$VirtualRewriteModel", name := "mapping", desc := "(IIIIII)I" } : Jvm.MethodName) ({ cls := "KnowHouseModel$VirtualRewriteModel", name := "mapping", desc := "(IIIIII)I" } : Jvm.MethodName)) ∈ lw_all := lw_g (lw_at lw_m35 33 rfl) rfl
theorem q8672 : (Jvm.Cond.code ({ cls := "KnowHouseModel$VirtualRewriteModel", name := "mapping", desc := "(IIIIII)I" } : Jvm.MethodName) prog_90_method_10_code (8 : Nat) (Option.some Jvm.ClassFile.FieldType.int)) ∈ lw_all := lw_g (lw_at lw_m35 34 rfl) rfl
theorem q8673 : (Jvm.Cond.methodLink "KnowHouseModel" (951 : Nat) ({ cls := "KnowHouseModel$VirtualRewriteModel", name := "triples", desc := "()I" } : Jvm.MethodName)) ∈ lw_all := lw_g (lw_at lw_m35 35 rfl) rfl
theorem q8674 : (Jvm.Cond.instanceMethod ({ cls := "KnowHouseModel$VirtualRewriteModel", name := "triples", desc := "()I" } : Jvm.MethodName)) ∈ lw_all := lw_g (lw_at lw_m35 36 rfl) rfl
theorem q8675 : (Jvm.Cond.selects "KnowHouseModel$VirtualRewriteModel" ({ cls := "KnowHouseModel$VirtualRewriteModel", name := "triples", desc := "()I" } : Jvm.MethodName) ({ cls := "KnowHouseModel$VirtualRewriteModel", name := "triples", desc := "()I" } : Jvm.MethodName)) ∈ lw_all := lw_g (lw_at lw_m35 37 rfl) rfl
theorem q8676 : (Jvm.Cond.code ({ cls := "KnowHouseModel$VirtualRewriteModel", name := "triples", desc := "()I" } : Jvm.MethodName) prog_90_method_14_code (8 : Nat) (Option.some Jvm.ClassFile.FieldType.int)) ∈ lw_all := lw_g (lw_at lw_m35 38 rfl) rfl
theorem q8677 : (Jvm.Cond.methodLink "KnowHouseModel" (952 : Nat) ({ cls := "KnowHouseModel$VirtualRewriteModel", name := "atom", desc := "(III)I" } : Jvm.MethodName)) ∈ lw_all := lw_g (lw_at lw_m35 39 rfl) rfl
theorem q8678 : (Jvm.Cond.instanceMethod ({ cls := "KnowHouseModel$VirtualRewriteModel", name := "atom", desc := "(III)I" } : Jvm.MethodName)) ∈ lw_all := lw_g (lw_at lw_m35 40 rfl) rfl
theorem q8679 : (Jvm.Cond.selects "KnowHouseModel$VirtualRewriteModel" ({ cls := "KnowHouseModel$VirtualRewriteModel", name := "atom", desc := "(III)I" } : Jvm.MethodName) ({ cls := "KnowHouseModel$VirtualRewriteModel", name := "atom", desc := "(III)I" } : Jvm.MethodName)) ∈ lw_all := lw_g (lw_at lw_m35 41 rfl) rfl
theorem q8680 : (Jvm.Cond.code ({ cls := "KnowHouseModel$VirtualRewriteModel", name := "atom", desc := "(III)I" } : Jvm.MethodName) prog_90_method_15_code (4 : Nat) (Option.some Jvm.ClassFile.FieldType.int)) ∈ lw_all := lw_g (lw_at lw_m35 42 rfl) rfl
theorem q8682 : (Jvm.Cond.methodLink "KnowHouseModel" (955 : Nat) ({ cls := "KnowHouseModel$VirtualRewriteModel", name := "span", desc := "(III)I" } : Jvm.MethodName)) ∈ lw_all := lw_g (lw_at lw_m35 44 rfl) rfl
theorem q8683 : (Jvm.Cond.instanceMethod ({ cls := "KnowHouseModel$VirtualRewriteModel", name := "span", desc := "(III)I" } : Jvm.MethodName)) ∈ lw_all := lw_g (lw_at lw_m35 45 rfl) rfl
theorem q8684 : (Jvm.Cond.selects "KnowHouseModel$VirtualRewriteModel" ({ cls := "KnowHouseModel$VirtualRewriteModel", name := "span", desc := "(III)I" } : Jvm.MethodName) ({ cls := "KnowHouseModel$VirtualRewriteModel", name := "span", desc := "(III)I" } : Jvm.MethodName)) ∈ lw_all := lw_g (lw_at lw_m35 46 rfl) rfl
theorem q8685 : (Jvm.Cond.code ({ cls := "KnowHouseModel$VirtualRewriteModel", name := "span", desc := "(III)I" } : Jvm.MethodName) prog_90_method_16_code (4 : Nat) (Option.some Jvm.ClassFile.FieldType.int)) ∈ lw_all := lw_g (lw_at lw_m35 47 rfl) rfl
theorem q8686 : (Jvm.Cond.methodLink "KnowHouseModel" (958 : Nat) ({ cls := "KnowHouseModel$VirtualRewriteModel", name := "clear", desc := "()I" } : Jvm.MethodName)) ∈ lw_all := lw_g (lw_at lw_m35 48 rfl) rfl
theorem q8687 : (Jvm.Cond.instanceMethod ({ cls := "KnowHouseModel$VirtualRewriteModel", name := "clear", desc := "()I" } : Jvm.MethodName)) ∈ lw_all := lw_g (lw_at lw_m35 49 rfl) rfl
theorem q8688 : (Jvm.Cond.selects "KnowHouseModel$VirtualRewriteModel" ({ cls := "KnowHouseModel$VirtualRewriteModel", name := "clear", desc := "()I" } : Jvm.MethodName) ({ cls := "KnowHouseModel$VirtualRewriteModel", name := "clear", desc := "()I" } : Jvm.MethodName)) ∈ lw_all := lw_g (lw_at lw_m35 50 rfl) rfl
theorem q8689 : (Jvm.Cond.code ({ cls := "KnowHouseModel$VirtualRewriteModel", name := "clear", desc := "()I" } : Jvm.MethodName) prog_90_method_17_code (2 : Nat) (Option.some Jvm.ClassFile.FieldType.int)) ∈ lw_all := lw_g (lw_at lw_m35 51 rfl) rfl
theorem q8690 : (Jvm.Cond.methodLink "KnowHouseModel" (961 : Nat) ({ cls := "KnowHouseModel$VirtualRewriteModel", name := "unions", desc := "()I" } : Jvm.MethodName)) ∈ lw_all := lw_g (lw_at lw_m35 52 rfl) rfl
theorem q8691 : (Jvm.Cond.instanceMethod ({ cls := "KnowHouseModel$VirtualRewriteModel", name := "unions", desc := "()I" } : Jvm.MethodName)) ∈ lw_all := lw_g (lw_at lw_m35 53 rfl) rfl
theorem q8692 : (Jvm.Cond.selects "KnowHouseModel$VirtualRewriteModel" ({ cls := "KnowHouseModel$VirtualRewriteModel", name := "unions", desc := "()I" } : Jvm.MethodName) ({ cls := "KnowHouseModel$VirtualRewriteModel", name := "unions", desc := "()I" } : Jvm.MethodName)) ∈ lw_all := lw_g (lw_at lw_m35 54 rfl) rfl
theorem q8693 : (Jvm.Cond.code ({ cls := "KnowHouseModel$VirtualRewriteModel", name := "unions", desc := "()I" } : Jvm.MethodName) prog_90_method_25_code (2 : Nat) (Option.some Jvm.ClassFile.FieldType.int)) ∈ lw_all := lw_g (lw_at lw_m35 55 rfl) rfl
theorem q8694 : (Jvm.Cond.methodLink "KnowHouseModel" (964 : Nat) ({ cls := "KnowHouseModel$VirtualRewriteModel", name := "union", desc := "(II)I" } : Jvm.MethodName)) ∈ lw_all := lw_g (lw_at lw_m35 56 rfl) rfl
theorem q8695 : (Jvm.Cond.instanceMethod ({ cls := "KnowHouseModel$VirtualRewriteModel", name := "union", desc := "(II)I" } : Jvm.MethodName)) ∈ lw_all := lw_g (lw_at lw_m35 57 rfl) rfl
theorem q8696 : (Jvm.Cond.selects "KnowHouseModel$VirtualRewriteModel" ({ cls := "KnowHouseModel$VirtualRewriteModel", name := "union", desc := "(II)I" } : Jvm.MethodName) ({ cls := "KnowHouseModel$VirtualRewriteModel", name := "union", desc := "(II)I" } : Jvm.MethodName)) ∈ lw_all := lw_g (lw_at lw_m35 58 rfl) rfl
theorem q8697 : (Jvm.Cond.code ({ cls := "KnowHouseModel$VirtualRewriteModel", name := "union", desc := "(II)I" } : Jvm.MethodName) prog_90_method_26_code (4 : Nat) (Option.some Jvm.ClassFile.FieldType.int)) ∈ lw_all := lw_g (lw_at lw_m35 59 rfl) rfl
theorem q8698 : (Jvm.Cond.methodLink "KnowHouseModel" (967 : Nat) ({ cls := "KnowHouseModel$VirtualRewriteModel", name := "estimate", desc := "(I)I" } : Jvm.MethodName)) ∈ lw_all := lw_g (lw_at lw_m35 60 rfl) rfl
theorem q8699 : (Jvm.Cond.instanceMethod ({ cls := "KnowHouseModel$VirtualRewriteModel", name := "estimate", desc := "(I)I" } : Jvm.MethodName)) ∈ lw_all := lw_g (lw_at lw_m35 61 rfl) rfl
theorem q8700 : (Jvm.Cond.selects "KnowHouseModel$VirtualRewriteModel" ({ cls := "KnowHouseModel$VirtualRewriteModel", name := "estimate", desc := "(I)I" } : Jvm.MethodName) ({ cls := "KnowHouseModel$VirtualRewriteModel", name := "estimate", desc := "(I)I" } : Jvm.MethodName)) ∈ lw_all := lw_g (lw_at lw_m35 62 rfl) rfl
theorem q8701 : (Jvm.Cond.code ({ cls := "KnowHouseModel$VirtualRewriteModel", name := "estimate", desc := "(I)I" } : Jvm.MethodName) prog_90_method_28_code (5 : Nat) (Option.some Jvm.ClassFile.FieldType.int)) ∈ lw_all := lw_g (lw_at lw_m35 63 rfl) rfl
theorem q8706 : (Jvm.Cond.methodLink "KnowHouseModel" (970 : Nat) ({ cls := "KnowHouseModel$VirtualRewriteModel", name := "found", desc := "(II)I" } : Jvm.MethodName)) ∈ lw_all := lw_g (lw_at lw_m35 68 rfl) rfl
theorem q8707 : (Jvm.Cond.instanceMethod ({ cls := "KnowHouseModel$VirtualRewriteModel", name := "found", desc := "(II)I" } : Jvm.MethodName)) ∈ lw_all := lw_g (lw_at lw_m35 69 rfl) rfl
theorem q8708 : (Jvm.Cond.selects "KnowHouseModel$VirtualRewriteModel" ({ cls := "KnowHouseModel$VirtualRewriteModel", name := "found", desc := "(II)I" } : Jvm.MethodName) ({ cls := "KnowHouseModel$VirtualRewriteModel", name := "found", desc := "(II)I" } : Jvm.MethodName)) ∈ lw_all := lw_g (lw_at lw_m35 70 rfl) rfl
theorem q8709 : (Jvm.Cond.code ({ cls := "KnowHouseModel$VirtualRewriteModel", name := "found", desc := "(II)I" } : Jvm.MethodName) prog_90_method_39_code (3 : Nat) (Option.some Jvm.ClassFile.FieldType.int)) ∈ lw_all := lw_g (lw_at lw_m35 71 rfl) rfl
theorem q8710 : (Jvm.Cond.methodLink "KnowHouseModel" (681 : Nat) ({ cls := "KnowHouseModel", name := "rulesCall", desc := "(I)J" } : Jvm.MethodName)) ∈ lw_all := lw_g (lw_at lw_m35 72 rfl) rfl
theorem q8712 : (Jvm.Cond.instanceMethod ({ cls := "KnowHouseModel", name := "rulesCall", desc := "(I)J" } : Jvm.MethodName)) ∈ lw_all := lw_g (lw_at lw_m35 74 rfl) rfl
theorem q8713 : (Jvm.Cond.code ({ cls := "KnowHouseModel", name := "rulesCall", desc := "(I)J" } : Jvm.MethodName) prog_78_method_43_code (2 : Nat) (Option.some Jvm.ClassFile.FieldType.long)) ∈ lw_all := lw_g (lw_at lw_m35 75 rfl) rfl
theorem q8714 : (Jvm.Cond.methodLink "KnowHouseModel" (973 : Nat) ({ cls := "KnowHouseModel$RuleEngineModel", name := "rule", desc := "(III)I" } : Jvm.MethodName)) ∈ lw_all := lw_g (lw_at lw_m35 76 rfl) rfl
theorem q8715 : (Jvm.Cond.instanceMethod ({ cls := "KnowHouseModel$RuleEngineModel", name := "rule", desc := "(III)I" } : Jvm.MethodName)) ∈ lw_all := lw_g (lw_at lw_m35 77 rfl) rfl
theorem q8716 : (Jvm.Cond.selects "KnowHouseModel$RuleEngineModel" ({ cls := "KnowHouseModel$RuleEngineModel", name := "rule", desc := "(III)I" } : Jvm.MethodName) ({ cls := "KnowHouseModel$RuleEngineModel", name := "rule", desc := "(III)I" } : Jvm.MethodName)) ∈ lw_all := lw_g (lw_at lw_m35 78 rfl) rfl
theorem q8717 : (Jvm.Cond.code ({ cls := "KnowHouseModel$RuleEngineModel", name := "rule", desc := "(III)I" } : Jvm.MethodName) prog_88_method_10_code (4 : Nat) (Option.some Jvm.ClassFile.FieldType.int)) ∈ lw_all := lw_g (lw_at lw_m35 79 rfl) rfl
theorem q8721 : (Jvm.Cond.methodLink "KnowHouseModel" (975 : Nat) ({ cls := "KnowHouseModel$RuleEngineModel", name := "body", desc := "(IIIIZ)I" } : Jvm.MethodName)) ∈ lw_all := lw_g (lw_at lw_m35 83 rfl) rfl
theorem q8722 : (Jvm.Cond.instanceMethod ({ cls := "KnowHouseModel$RuleEngineModel", name := "body", desc := "(IIIIZ)I" } : Jvm.MethodName)) ∈ lw_all := lw_g (lw_at lw_m35 84 rfl) rfl
theorem q8723 : (Jvm.Cond.selects "KnowHouseModel$RuleEngineModel" ({ cls := "KnowHouseModel$RuleEngineModel", name := "body", desc := "(IIIIZ)I" } : Jvm.MethodName) ({ cls := "KnowHouseModel$RuleEngineModel", name := "body", desc := "(IIIIZ)I" } : Jvm.MethodName)) ∈ lw_all := lw_g (lw_at lw_m35 85 rfl) rfl
theorem q8724 : (Jvm.Cond.code ({ cls := "KnowHouseModel$RuleEngineModel", name := "body", desc := "(IIIIZ)I" } : Jvm.MethodName) prog_88_method_12_code (6 : Nat) (Option.some Jvm.ClassFile.FieldType.int)) ∈ lw_all := lw_g (lw_at lw_m35 86 rfl) rfl
theorem q8733 : (Jvm.Cond.methodLink "KnowHouseModel" (979 : Nat) ({ cls := "KnowHouseModel$RuleEngineModel", name := "filter", desc := "(IIII)I" } : Jvm.MethodName)) ∈ lw_all := lw_g (lw_at lw_m35 95 rfl) rfl
theorem q8734 : (Jvm.Cond.instanceMethod ({ cls := "KnowHouseModel$RuleEngineModel", name := "filter", desc := "(IIII)I" } : Jvm.MethodName)) ∈ lw_all := lw_g (lw_at lw_m35 96 rfl) rfl
theorem q8735 : (Jvm.Cond.selects "KnowHouseModel$RuleEngineModel" ({ cls := "KnowHouseModel$RuleEngineModel", name := "filter", desc := "(IIII)I" } : Jvm.MethodName) ({ cls := "KnowHouseModel$RuleEngineModel", name := "filter", desc := "(IIII)I" } : Jvm.MethodName)) ∈ lw_all := lw_g (lw_at lw_m35 97 rfl) rfl
theorem q8736 : (Jvm.Cond.code ({ cls := "KnowHouseModel$RuleEngineModel", name := "filter", desc := "(IIII)I" } : Jvm.MethodName) prog_88_method_13_code (5 : Nat) (Option.some Jvm.ClassFile.FieldType.int)) ∈ lw_all := lw_g (lw_at lw_m35 98 rfl) rfl
theorem q8737 : (Jvm.Cond.methodLink "KnowHouseModel" (982 : Nat) ({ cls := "KnowHouseModel$RuleEngineModel", name := "aggregate", desc := "(III)I" } : Jvm.MethodName)) ∈ lw_all := lw_g (lw_at lw_m35 99 rfl) rfl
theorem q8738 : (Jvm.Cond.instanceMethod ({ cls := "KnowHouseModel$RuleEngineModel", name := "aggregate", desc := "(III)I" } : Jvm.MethodName)) ∈ lw_all := lw_g (lw_at lw_m35 100 rfl) rfl
theorem q8739 : (Jvm.Cond.selects "KnowHouseModel$RuleEngineModel" ({ cls := "KnowHouseModel$RuleEngineModel", name := "aggregate", desc := "(III)I" } : Jvm.MethodName) ({ cls := "KnowHouseModel$RuleEngineModel", name := "aggregate", desc := "(III)I" } : Jvm.MethodName)) ∈ lw_all := lw_g (lw_at lw_m35 101 rfl) rfl
theorem q8740 : (Jvm.Cond.code ({ cls := "KnowHouseModel$RuleEngineModel", name := "aggregate", desc := "(III)I" } : Jvm.MethodName) prog_88_method_14_code (4 : Nat) (Option.some Jvm.ClassFile.FieldType.int)) ∈ lw_all := lw_g (lw_at lw_m35 102 rfl) rfl
theorem q8741 : (Jvm.Cond.methodLink "KnowHouseModel" (985 : Nat) ({ cls := "KnowHouseModel$RuleEngineModel", name := "drop", desc := "(I)I" } : Jvm.MethodName)) ∈ lw_all := lw_g (lw_at lw_m35 103 rfl) rfl
theorem q8742 : (Jvm.Cond.instanceMethod ({ cls := "KnowHouseModel$RuleEngineModel", name := "drop", desc := "(I)I" } : Jvm.MethodName)) ∈ lw_all := lw_g (lw_at lw_m35 104 rfl) rfl
theorem q8743 : (Jvm.Cond.selects "KnowHouseModel$RuleEngineModel" ({ cls := "KnowHouseModel$RuleEngineModel", name := "drop", desc := "(I)I" } : Jvm.MethodName) ({ cls := "KnowHouseModel$RuleEngineModel", name := "drop", desc := "(I)I" } : Jvm.MethodName)) ∈ lw_all := lw_g (lw_at lw_m35 105 rfl) rfl
theorem q8744 : (Jvm.Cond.code ({ cls := "KnowHouseModel$RuleEngineModel", name := "drop", desc := "(I)I" } : Jvm.MethodName) prog_88_method_15_code (4 : Nat) (Option.some Jvm.ClassFile.FieldType.int)) ∈ lw_all := lw_g (lw_at lw_m35 106 rfl) rfl
theorem q8745 : (Jvm.Cond.methodLink "KnowHouseModel" (986 : Nat) ({ cls := "KnowHouseModel$RuleEngineModel", name := "safe", desc := "(I)I" } : Jvm.MethodName)) ∈ lw_all := lw_g (lw_at lw_m35 107 rfl) rfl
theorem q8746 : (Jvm.Cond.instanceMethod ({ cls := "KnowHouseModel$RuleEngineModel", name := "safe", desc := "(I)I" } : Jvm.MethodName)) ∈ lw_all := lw_g (lw_at lw_m35 108 rfl) rfl
theorem q8747 : (Jvm.Cond.selects "KnowHouseModel$RuleEngineModel" ({ cls := "KnowHouseModel$RuleEngineModel", name := "safe", desc := "(I)I" } : Jvm.MethodName) ({ cls := "KnowHouseModel$RuleEngineModel", name := "safe", desc := "(I)I" } : Jvm.MethodName)) ∈ lw_all := lw_g (lw_at lw_m35 109 rfl) rfl
theorem q8748 : (Jvm.Cond.code ({ cls := "KnowHouseModel$RuleEngineModel", name := "safe", desc := "(I)I" } : Jvm.MethodName) prog_88_method_18_code (2 : Nat) (Option.some Jvm.ClassFile.FieldType.int)) ∈ lw_all := lw_g (lw_at lw_m35 110 rfl) rfl
theorem q8749 : (Jvm.Cond.methodLink "KnowHouseModel" (989 : Nat) ({ cls := "KnowHouseModel$RuleEngineModel", name := "run", desc := "()I" } : Jvm.MethodName)) ∈ lw_all := lw_g (lw_at lw_m35 111 rfl) rfl
theorem q8750 : (Jvm.Cond.instanceMethod ({ cls := "KnowHouseModel$RuleEngineModel", name := "run", desc := "()I" } : Jvm.MethodName)) ∈ lw_all := lw_g (lw_at lw_m35 112 rfl) rfl
theorem q8751 : (Jvm.Cond.selects "KnowHouseModel$RuleEngineModel" ({ cls := "KnowHouseModel$RuleEngineModel", name := "run", desc := "()I" } : Jvm.MethodName) ({ cls := "KnowHouseModel$RuleEngineModel", name := "run", desc := "()I" } : Jvm.MethodName)) ∈ lw_all := lw_g (lw_at lw_m35 113 rfl) rfl
theorem q8752 : (Jvm.Cond.code ({ cls := "KnowHouseModel$RuleEngineModel", name := "run", desc := "()I" } : Jvm.MethodName) prog_88_method_32_code (1 : Nat) (Option.some Jvm.ClassFile.FieldType.int)) ∈ lw_all := lw_g (lw_at lw_m35 114 rfl) rfl
theorem q8753 : (Jvm.Cond.methodLink "KnowHouseModel" (990 : Nat) ({ cls := "KnowHouseModel$RuleEngineModel", name := "stratum", desc := "(I)I" } : Jvm.MethodName)) ∈ lw_all := lw_g (lw_at lw_m35 115 rfl) rfl
theorem q8754 : (Jvm.Cond.instanceMethod ({ cls := "KnowHouseModel$RuleEngineModel", name := "stratum", desc := "(I)I" } : Jvm.MethodName)) ∈ lw_all := lw_g (lw_at lw_m35 116 rfl) rfl
theorem q8755 : (Jvm.Cond.selects "KnowHouseModel$RuleEngineModel" ({ cls := "KnowHouseModel$RuleEngineModel", name := "stratum", desc := "(I)I" } : Jvm.MethodName) ({ cls := "KnowHouseModel$RuleEngineModel", name := "stratum", desc := "(I)I" } : Jvm.MethodName)) ∈ lw_all := lw_g (lw_at lw_m35 117 rfl) rfl
theorem q8756 : (Jvm.Cond.code ({ cls := "KnowHouseModel$RuleEngineModel", name := "stratum", desc := "(I)I" } : Jvm.MethodName) prog_88_method_33_code (2 : Nat) (Option.some Jvm.ClassFile.FieldType.int)) ∈ lw_all := lw_g (lw_at lw_m35 118 rfl) rfl
theorem q8757 : (Jvm.Cond.methodLink "KnowHouseModel" (993 : Nat) ({ cls := "KnowHouseModel$RuleEngineModel", name := "round", desc := "(III)I" } : Jvm.MethodName)) ∈ lw_all := lw_g (lw_at lw_m35 119 rfl) rfl
theorem q8758 : (Jvm.Cond.instanceMethod ({ cls := "KnowHouseModel$RuleEngineModel", name := "round", desc := "(III)I" } : Jvm.MethodName)) ∈ lw_all := lw_g (lw_at lw_m35 120 rfl) rfl
theorem q8759 : (Jvm.Cond.selects "KnowHouseModel$RuleEngineModel" ({ cls := "KnowHouseModel$RuleEngineModel", name := "round", desc := "(III)I" } : Jvm.MethodName) ({ cls := "KnowHouseModel$RuleEngineModel", name := "round", desc := "(III)I" } : Jvm.MethodName)) ∈ lw_all := lw_g (lw_at lw_m35 121 rfl) rfl
theorem q8760 : (Jvm.Cond.code ({ cls := "KnowHouseModel$RuleEngineModel", name := "round", desc := "(III)I" } : Jvm.MethodName) prog_88_method_35_code (5 : Nat) (Option.some Jvm.ClassFile.FieldType.int)) ∈ lw_all := lw_g (lw_at lw_m35 122 rfl) rfl
theorem q8761 : (Jvm.Cond.methodLink "KnowHouseModel" (996 : Nat) ({ cls := "KnowHouseModel$RuleEngineModel", name := "counts", desc := "(III)I" } : Jvm.MethodName)) ∈ lw_all := lw_g (lw_at lw_m35 123 rfl) rfl
theorem q8762 : (Jvm.Cond.instanceMethod ({ cls := "KnowHouseModel$RuleEngineModel", name := "counts", desc := "(III)I" } : Jvm.MethodName)) ∈ lw_all := lw_g (lw_at lw_m35 124 rfl) rfl
theorem q8763 : (Jvm.Cond.selects "KnowHouseModel$RuleEngineModel" ({ cls := "KnowHouseModel$RuleEngineModel", name := "counts", desc := "(III)I" } : Jvm.MethodName) ({ cls := "KnowHouseModel$RuleEngineModel", name := "counts", desc := "(III)I" } : Jvm.MethodName)) ∈ lw_all := lw_g (lw_at lw_m35 125 rfl) rfl
theorem q8764 : (Jvm.Cond.code ({ cls := "KnowHouseModel$RuleEngineModel", name := "counts", desc := "(III)I" } : Jvm.MethodName) prog_88_method_36_code (4 : Nat) (Option.some Jvm.ClassFile.FieldType.int)) ∈ lw_all := lw_g (lw_at lw_m35 126 rfl) rfl
theorem q8765 : (Jvm.Cond.methodLink "KnowHouseModel" (999 : Nat) ({ cls := "KnowHouseModel$RuleEngineModel", name := "row", desc := "(I)I" } : Jvm.MethodName)) ∈ lw_all := lw_g (lw_at lw_m35 127 rfl) rfl
theorem q8766 : (Jvm.Cond.instanceMethod ({ cls := "KnowHouseModel$RuleEngineModel", name := "row", desc := "(I)I" } : Jvm.MethodName)) ∈ lw_all := lw_g (lw_at lw_m35 128 rfl) rfl
theorem q8767 : (Jvm.Cond.selects "KnowHouseModel$RuleEngineModel" ({ cls := "KnowHouseModel$RuleEngineModel", name := "row", desc := "(I)I" } : Jvm.MethodName) ({ cls := "KnowHouseModel$RuleEngineModel", name := "row", desc := "(I)I" } : Jvm.MethodName)) ∈ lw_all := lw_g (lw_at lw_m35 129 rfl) rfl
theorem q8768 : (Jvm.Cond.code ({ cls := "KnowHouseModel$RuleEngineModel", name := "row", desc := "(I)I" } : Jvm.MethodName) prog_88_method_37_code (3 : Nat) (Option.some Jvm.ClassFile.FieldType.int)) ∈ lw_all := lw_g (lw_at lw_m35 130 rfl) rfl
theorem q8769 : (Jvm.Cond.methodLink "KnowHouseModel" (1001 : Nat) ({ cls := "KnowHouseModel$RuleEngineModel", name := "size", desc := "()I" } : Jvm.MethodName)) ∈ lw_all := lw_g (lw_at lw_m35 131 rfl) rfl
theorem q8770 : (Jvm.Cond.instanceMethod ({ cls := "KnowHouseModel$RuleEngineModel", name := "size", desc := "()I" } : Jvm.MethodName)) ∈ lw_all := lw_g (lw_at lw_m35 132 rfl) rfl
theorem q8771 : (Jvm.Cond.selects "KnowHouseModel$RuleEngineModel" ({ cls := "KnowHouseModel$RuleEngineModel", name := "size", desc := "()I" } : Jvm.MethodName) ({ cls := "KnowHouseModel$RuleEngineModel", name := "size", desc := "()I" } : Jvm.MethodName)) ∈ lw_all := lw_g (lw_at lw_m35 133 rfl) rfl
theorem q8772 : (Jvm.Cond.code ({ cls := "KnowHouseModel$RuleEngineModel", name := "size", desc := "()I" } : Jvm.MethodName) prog_88_method_38_code (3 : Nat) (Option.some Jvm.ClassFile.FieldType.int)) ∈ lw_all := lw_g (lw_at lw_m35 134 rfl) rfl
theorem q8773 : (Jvm.Cond.methodLink "KnowHouseModel" (684 : Nat) ({ cls := "KnowHouseModel", name := "rewriteCall", desc := "(I)J" } : Jvm.MethodName)) ∈ lw_all := lw_g (lw_at lw_m35 135 rfl) rfl
theorem q8775 : (Jvm.Cond.instanceMethod ({ cls := "KnowHouseModel", name := "rewriteCall", desc := "(I)J" } : Jvm.MethodName)) ∈ lw_all := lw_g (lw_at lw_m35 137 rfl) rfl
theorem q8776 : (Jvm.Cond.code ({ cls := "KnowHouseModel", name := "rewriteCall", desc := "(I)J" } : Jvm.MethodName) prog_78_method_44_code (2 : Nat) (Option.some Jvm.ClassFile.FieldType.long)) ∈ lw_all := lw_g (lw_at lw_m35 138 rfl) rfl
theorem q8777 : (Jvm.Cond.methodLink "KnowHouseModel" (1003 : Nat) ({ cls := "KnowHouseModel$QlRewriteModel", name := "forget", desc := "(ZIII)I" } : Jvm.MethodName)) ∈ lw_all := lw_g (lw_at lw_m35 139 rfl) rfl
theorem q8778 : (Jvm.Cond.instanceMethod ({ cls := "KnowHouseModel$QlRewriteModel", name := "forget", desc := "(ZIII)I" } : Jvm.MethodName)) ∈ lw_all := lw_g (lw_at lw_m35 140 rfl) rfl
theorem q8779 : (Jvm.Cond.selects "KnowHouseModel$QlRewriteModel" ({ cls := "KnowHouseModel$QlRewriteModel", name := "forget", desc := "(ZIII)I" } : Jvm.MethodName) ({ cls := "KnowHouseModel$QlRewriteModel", name := "forget", desc := "(ZIII)I" } : Jvm.MethodName)) ∈ lw_all := lw_g (lw_at lw_m35 141 rfl) rfl
theorem q8780 : (Jvm.Cond.code ({ cls := "KnowHouseModel$QlRewriteModel", name := "forget", desc := "(ZIII)I" } : Jvm.MethodName) prog_86_method_9_code (6 : Nat) (Option.some Jvm.ClassFile.FieldType.int)) ∈ lw_all := lw_g (lw_at lw_m35 142 rfl) rfl
theorem q8781 : (Jvm.Cond.methodLink "KnowHouseModel" (1006 : Nat) ({ cls := "KnowHouseModel$QlRewriteModel", name := "question", desc := "(I)I" } : Jvm.MethodName)) ∈ lw_all := lw_g (lw_at lw_m35 143 rfl) rfl
theorem q8782 : (Jvm.Cond.instanceMethod ({ cls := "KnowHouseModel$QlRewriteModel", name := "question", desc := "(I)I" } : Jvm.MethodName)) ∈ lw_all := lw_g (lw_at lw_m35 144 rfl) rfl
theorem q8783 : (Jvm.Cond.selects "KnowHouseModel$QlRewriteModel" ({ cls := "KnowHouseModel$QlRewriteModel", name := "question", desc := "(I)I" } : Jvm.MethodName) ({ cls := "KnowHouseModel$QlRewriteModel", name := "question", desc := "(I)I" } : Jvm.MethodName)) ∈ lw_all := lw_g (lw_at lw_m35 145 rfl) rfl
theorem q8784 : (Jvm.Cond.code ({ cls := "KnowHouseModel$QlRewriteModel", name := "question", desc := "(I)I" } : Jvm.MethodName) prog_86_method_10_code (2 : Nat) (Option.some Jvm.ClassFile.FieldType.int)) ∈ lw_all := lw_g (lw_at lw_m35 146 rfl) rfl
theorem q8785 : (Jvm.Cond.methodLink "KnowHouseModel" (1009 : Nat) ({ cls := "KnowHouseModel$QlRewriteModel", name := "atom", desc := "(IZIII)I" } : Jvm.MethodName)) ∈ lw_all := lw_g (lw_at lw_m35 147 rfl) rfl
theorem q8786 : (Jvm.Cond.instanceMethod ({ cls := "KnowHouseModel$QlRewriteModel", name := "atom", desc := "(IZIII)I" } : Jvm.MethodName)) ∈ lw_all := lw_g (lw_at lw_m35 148 rfl) rfl
theorem q8787 : (Jvm.Cond.selects "KnowHouseModel$QlRewriteModel" ({ cls := "KnowHouseModel$QlRewriteModel", name := "atom", desc := "(IZIII)I" } : Jvm.MethodName) ({ cls := "KnowHouseModel$QlRewriteModel", name := "atom", desc := "(IZIII)I" } : Jvm.MethodName)) ∈ lw_all := lw_g (lw_at lw_m35 149 rfl) rfl
theorem q8788 : (Jvm.Cond.code ({ cls := "KnowHouseModel$QlRewriteModel", name := "atom", desc := "(IZIII)I" } : Jvm.MethodName) prog_86_method_12_code (10 : Nat) (Option.some Jvm.ClassFile.FieldType.int)) ∈ lw_all := lw_g (lw_at lw_m35 150 rfl) rfl
theorem q8793 : (Jvm.Cond.methodLink "KnowHouseModel" (1012 : Nat) ({ cls := "KnowHouseModel$QlRewriteModel", name := "forms", desc := "(I)I" } : Jvm.MethodName)) ∈ lw_all := lw_g (lw_at lw_m35 155 rfl) rfl
theorem q8794 : (Jvm.Cond.instanceMethod ({ cls := "KnowHouseModel$QlRewriteModel", name := "forms", desc := "(I)I" } : Jvm.MethodName)) ∈ lw_all := lw_g (lw_at lw_m35 156 rfl) rfl
theorem q8795 : (Jvm.Cond.selects "KnowHouseModel$QlRewriteModel" ({ cls := "KnowHouseModel$QlRewriteModel", name := "forms", desc := "(I)I" } : Jvm.MethodName) ({ cls := "KnowHouseModel$QlRewriteModel", name := "forms", desc := "(I)I" } : Jvm.MethodName)) ∈ lw_all := lw_g (lw_at lw_m35 157 rfl) rfl
theorem q8796 : (Jvm.Cond.code ({ cls := "KnowHouseModel$QlRewriteModel", name := "forms", desc := "(I)I" } : Jvm.MethodName) prog_86_method_38_code (3 : Nat) (Option.some Jvm.ClassFile.FieldType.int)) ∈ lw_all := lw_g (lw_at lw_m35 158 rfl) rfl
theorem q8877 : (Jvm.Cond.methodLink "KnowHouseModel" (1015 : Nat) ({ cls := "KnowHouseModel$QlRewriteModel", name := "form", desc := "(III)I" } : Jvm.MethodName)) ∈ lw_all := lw_g (lw_at lw_m35 239 rfl) rfl
theorem q8878 : (Jvm.Cond.instanceMethod ({ cls := "KnowHouseModel$QlRewriteModel", name := "form", desc := "(III)I" } : Jvm.MethodName)) ∈ lw_all := lw_g (lw_at lw_m36 0 rfl) rfl
theorem q8879 : (Jvm.Cond.selects "KnowHouseModel$QlRewriteModel" ({ cls := "KnowHouseModel$QlRewriteModel", name := "form", desc := "(III)I" } : Jvm.MethodName) ({ cls := "KnowHouseModel$QlRewriteModel", name := "form", desc := "(III)I" } : Jvm.MethodName)) ∈ lw_all := lw_g (lw_at lw_m36 1 rfl) rfl
theorem q8880 : (Jvm.Cond.code ({ cls := "KnowHouseModel$QlRewriteModel", name := "form", desc := "(III)I" } : Jvm.MethodName) prog_86_method_39_code (5 : Nat) (Option.some Jvm.ClassFile.FieldType.int)) ∈ lw_all := lw_g (lw_at lw_m36 2 rfl) rfl
theorem q8881 : (Jvm.Cond.methodLink "KnowHouseModel" (1017 : Nat) ({ cls := "KnowHouseModel$QlRewriteModel", name := "run", desc := "(I)I" } : Jvm.MethodName)) ∈ lw_all := lw_g (lw_at lw_m36 3 rfl) rfl
theorem q8882 : (Jvm.Cond.instanceMethod ({ cls := "KnowHouseModel$QlRewriteModel", name := "run", desc := "(I)I" } : Jvm.MethodName)) ∈ lw_all := lw_g (lw_at lw_m36 4 rfl) rfl
theorem q8883 : (Jvm.Cond.selects "KnowHouseModel$QlRewriteModel" ({ cls := "KnowHouseModel$QlRewriteModel", name := "run", desc := "(I)I" } : Jvm.MethodName) ({ cls := "KnowHouseModel$QlRewriteModel", name := "run", desc := "(I)I" } : Jvm.MethodName)) ∈ lw_all := lw_g (lw_at lw_m36 5 rfl) rfl
theorem q8884 : (Jvm.Cond.code ({ cls := "KnowHouseModel$QlRewriteModel", name := "run", desc := "(I)I" } : Jvm.MethodName) prog_86_method_40_code (5 : Nat) (Option.some Jvm.ClassFile.FieldType.int)) ∈ lw_all := lw_g (lw_at lw_m36 6 rfl) rfl
theorem q8905 : (Jvm.Cond.methodLink "KnowHouseModel" (1019 : Nat) ({ cls := "KnowHouseModel$QlRewriteModel", name := "answer", desc := "(II)I" } : Jvm.MethodName)) ∈ lw_all := lw_g (lw_at lw_m36 27 rfl) rfl
theorem q8906 : (Jvm.Cond.instanceMethod ({ cls := "KnowHouseModel$QlRewriteModel", name := "answer", desc := "(II)I" } : Jvm.MethodName)) ∈ lw_all := lw_g (lw_at lw_m36 28 rfl) rfl
theorem q8907 : (Jvm.Cond.selects "KnowHouseModel$QlRewriteModel" ({ cls := "KnowHouseModel$QlRewriteModel", name := "answer", desc := "(II)I" } : Jvm.MethodName) ({ cls := "KnowHouseModel$QlRewriteModel", name := "answer", desc := "(II)I" } : Jvm.MethodName)) ∈ lw_all := lw_g (lw_at lw_m36 29 rfl) rfl
theorem q8908 : (Jvm.Cond.code ({ cls := "KnowHouseModel$QlRewriteModel", name := "answer", desc := "(II)I" } : Jvm.MethodName) prog_86_method_41_code (6 : Nat) (Option.some Jvm.ClassFile.FieldType.int)) ∈ lw_all := lw_g (lw_at lw_m36 30 rfl) rfl
theorem q8909 : (Jvm.Cond.methodLink "KnowHouseModel" (1022 : Nat) ({ cls := "KnowHouseModel$QlRewriteModel", name := "why", desc := "(II)I" } : Jvm.MethodName)) ∈ lw_all := lw_g (lw_at lw_m36 31 rfl) rfl
theorem q8910 : (Jvm.Cond.instanceMethod ({ cls := "KnowHouseModel$QlRewriteModel", name := "why", desc := "(II)I" } : Jvm.MethodName)) ∈ lw_all := lw_g (lw_at lw_m36 32 rfl) rfl
theorem q8911 : (Jvm.Cond.selects "KnowHouseModel$QlRewriteModel" ({ cls := "KnowHouseModel$QlRewriteModel", name := "why", desc := "(II)I" } : Jvm.MethodName) ({ cls := "KnowHouseModel$QlRewriteModel", name := "why", desc := "(II)I" } : Jvm.MethodName)) ∈ lw_all := lw_g (lw_at lw_m36 33 rfl) rfl
theorem q8912 : (Jvm.Cond.code ({ cls := "KnowHouseModel$QlRewriteModel", name := "why", desc := "(II)I" } : Jvm.MethodName) prog_86_method_42_code (4 : Nat) (Option.some Jvm.ClassFile.FieldType.int)) ∈ lw_all := lw_g (lw_at lw_m36 34 rfl) rfl
theorem q8913 : (Jvm.Cond.methodLink "KnowHouseModel" (1025 : Nat) ({ cls := "KnowHouseModel$QlRewriteModel", name := "broken", desc := "()I" } : Jvm.MethodName)) ∈ lw_all := lw_g (lw_at lw_m36 35 rfl) rfl
theorem q8914 : (Jvm.Cond.instanceMethod ({ cls := "KnowHouseModel$QlRewriteModel", name := "broken", desc := "()I" } : Jvm.MethodName)) ∈ lw_all := lw_g (lw_at lw_m36 36 rfl) rfl
theorem q8915 : (Jvm.Cond.selects "KnowHouseModel$QlRewriteModel" ({ cls := "KnowHouseModel$QlRewriteModel", name := "broken", desc := "()I" } : Jvm.MethodName) ({ cls := "KnowHouseModel$QlRewriteModel", name := "broken", desc := "()I" } : Jvm.MethodName)) ∈ lw_all := lw_g (lw_at lw_m36 37 rfl) rfl
theorem q8916 : (Jvm.Cond.code ({ cls := "KnowHouseModel$QlRewriteModel", name := "broken", desc := "()I" } : Jvm.MethodName) prog_86_method_44_code (2 : Nat) (Option.some Jvm.ClassFile.FieldType.int)) ∈ lw_all := lw_g (lw_at lw_m36 38 rfl) rfl
theorem q8921 : (Jvm.Cond.methodLink "KnowHouseModel" (1026 : Nat) ({ cls := "KnowHouseModel$QlRewriteModel", name := "count", desc := "(I)I" } : Jvm.MethodName)) ∈ lw_all := lw_g (lw_at lw_m36 43 rfl) rfl
theorem q8922 : (Jvm.Cond.instanceMethod ({ cls := "KnowHouseModel$QlRewriteModel", name := "count", desc := "(I)I" } : Jvm.MethodName)) ∈ lw_all := lw_g (lw_at lw_m36 44 rfl) rfl
theorem q8923 : (Jvm.Cond.selects "KnowHouseModel$QlRewriteModel" ({ cls := "KnowHouseModel$QlRewriteModel", name := "count", desc := "(I)I" } : Jvm.MethodName) ({ cls := "KnowHouseModel$QlRewriteModel", name := "count", desc := "(I)I" } : Jvm.MethodName)) ∈ lw_all := lw_g (lw_at lw_m36 45 rfl) rfl
theorem q8924 : (Jvm.Cond.code ({ cls := "KnowHouseModel$QlRewriteModel", name := "count", desc := "(I)I" } : Jvm.MethodName) prog_86_method_45_code (2 : Nat) (Option.some Jvm.ClassFile.FieldType.int)) ∈ lw_all := lw_g (lw_at lw_m36 46 rfl) rfl
theorem q8925 : (Jvm.Cond.methodLink "KnowHouseModel" (1027 : Nat) ({ cls := "KnowHouseModel$QlRewriteModel", name := "clear", desc := "()I" } : Jvm.MethodName)) ∈ lw_all := lw_g (lw_at lw_m36 47 rfl) rfl
theorem q8926 : (Jvm.Cond.instanceMethod ({ cls := "KnowHouseModel$QlRewriteModel", name := "clear", desc := "()I" } : Jvm.MethodName)) ∈ lw_all := lw_g (lw_at lw_m36 48 rfl) rfl
theorem q8927 : (Jvm.Cond.selects "KnowHouseModel$QlRewriteModel" ({ cls := "KnowHouseModel$QlRewriteModel", name := "clear", desc := "()I" } : Jvm.MethodName) ({ cls := "KnowHouseModel$QlRewriteModel", name := "clear", desc := "()I" } : Jvm.MethodName)) ∈ lw_all := lw_g (lw_at lw_m36 49 rfl) rfl
theorem q8928 : (Jvm.Cond.code ({ cls := "KnowHouseModel$QlRewriteModel", name := "clear", desc := "()I" } : Jvm.MethodName) prog_86_method_46_code (2 : Nat) (Option.some Jvm.ClassFile.FieldType.int)) ∈ lw_all := lw_g (lw_at lw_m36 50 rfl) rfl
theorem q8929 : (Jvm.Cond.methodLink "KnowHouseModel" (687 : Nat) ({ cls := "KnowHouseModel", name := "diskCall", desc := "(I)J" } : Jvm.MethodName)) ∈ lw_all := lw_g (lw_at lw_m36 51 rfl) rfl
theorem q8931 : (Jvm.Cond.instanceMethod ({ cls := "KnowHouseModel", name := "diskCall", desc := "(I)J" } : Jvm.MethodName)) ∈ lw_all := lw_g (lw_at lw_m36 53 rfl) rfl
theorem q8932 : (Jvm.Cond.code ({ cls := "KnowHouseModel", name := "diskCall", desc := "(I)J" } : Jvm.MethodName) prog_78_method_45_code (2 : Nat) (Option.some Jvm.ClassFile.FieldType.long)) ∈ lw_all := lw_g (lw_at lw_m36 54 rfl) rfl
theorem q8933 : (Jvm.Cond.methodLink "KnowHouseModel" (1028 : Nat) ({ cls := "KnowHouseModel$KnowDiskModel", name := "cut", desc := "(II)V" } : Jvm.MethodName)) ∈ lw_all := lw_g (lw_at lw_m36 55 rfl) rfl
theorem q8934 : (Jvm.Cond.instanceMethod ({ cls := "KnowHouseModel$KnowDiskModel", name := "cut", desc := "(II)V" } : Jvm.MethodName)) ∈ lw_all := lw_g (lw_at lw_m36 56 rfl) rfl
theorem q8935 : (Jvm.Cond.selects "KnowHouseModel$KnowDiskModel" ({ cls := "KnowHouseModel$KnowDiskModel", name := "cut", desc := "(II)V" } : Jvm.MethodName) ({ cls := "KnowHouseModel$KnowDiskModel", name := "cut", desc := "(II)V" } : Jvm.MethodName)) ∈ lw_all := lw_g (lw_at lw_m36 57 rfl) rfl
theorem q8936 : (Jvm.Cond.code ({ cls := "KnowHouseModel$KnowDiskModel", name := "cut", desc := "(II)V" } : Jvm.MethodName) prog_84_method_28_code (4 : Nat) (Option.none : Option Jvm.ClassFile.FieldType)) ∈ lw_all := lw_g (lw_at lw_m36 58 rfl) rfl
theorem q8937 : (Jvm.Cond.methodLink "KnowHouseModel" (1031 : Nat) ({ cls := "KnowHouseModel$KnowDiskModel", name := "start", desc := "()I" } : Jvm.MethodName)) ∈ lw_all := lw_g (lw_at lw_m36 59 rfl) rfl
theorem q8938 : (Jvm.Cond.instanceMethod ({ cls := "KnowHouseModel$KnowDiskModel", name := "start", desc := "()I" } : Jvm.MethodName)) ∈ lw_all := lw_g (lw_at lw_m36 60 rfl) rfl
theorem q8939 : (Jvm.Cond.selects "KnowHouseModel$KnowDiskModel" ({ cls := "KnowHouseModel$KnowDiskModel", name := "start", desc := "()I" } : Jvm.MethodName) ({ cls := "KnowHouseModel$KnowDiskModel", name := "start", desc := "()I" } : Jvm.MethodName)) ∈ lw_all := lw_g (lw_at lw_m36 61 rfl) rfl
theorem q8940 : (Jvm.Cond.code ({ cls := "KnowHouseModel$KnowDiskModel", name := "start", desc := "()I" } : Jvm.MethodName) prog_84_method_30_code (7 : Nat) (Option.some Jvm.ClassFile.FieldType.int)) ∈ lw_all := lw_g (lw_at lw_m36 62 rfl) rfl
theorem q8948 : (Jvm.Cond.methodLink "KnowHouseModel" (1034 : Nat) ({ cls := "KnowHouseModel$KnowDiskModel", name := "poke", desc := "(III)I" } : Jvm.MethodName)) ∈ lw_all := lw_g (lw_at lw_m36 70 rfl) rfl
theorem q8949 : (Jvm.Cond.instanceMethod ({ cls := "KnowHouseModel$KnowDiskModel", name := "poke", desc := "(III)I" } : Jvm.MethodName)) ∈ lw_all := lw_g (lw_at lw_m36 71 rfl) rfl
theorem q8950 : (Jvm.Cond.selects "KnowHouseModel$KnowDiskModel" ({ cls := "KnowHouseModel$KnowDiskModel", name := "poke", desc := "(III)I" } : Jvm.MethodName) ({ cls := "KnowHouseModel$KnowDiskModel", name := "poke", desc := "(III)I" } : Jvm.MethodName)) ∈ lw_all := lw_g (lw_at lw_m36 72 rfl) rfl
theorem q8951 : (Jvm.Cond.code ({ cls := "KnowHouseModel$KnowDiskModel", name := "poke", desc := "(III)I" } : Jvm.MethodName) prog_84_method_33_code (5 : Nat) (Option.some Jvm.ClassFile.FieldType.int)) ∈ lw_all := lw_g (lw_at lw_m36 73 rfl) rfl
theorem q8952 : (Jvm.Cond.methodLink "KnowHouseModel" (1037 : Nat) ({ cls := "KnowHouseModel$KnowDiskModel", name := "wrong", desc := "(I)I" } : Jvm.MethodName)) ∈ lw_all := lw_g (lw_at lw_m36 74 rfl) rfl
theorem q8953 : (Jvm.Cond.instanceMethod ({ cls := "KnowHouseModel$KnowDiskModel", name := "wrong", desc := "(I)I" } : Jvm.MethodName)) ∈ lw_all := lw_g (lw_at lw_m36 75 rfl) rfl
theorem q8954 : (Jvm.Cond.selects "KnowHouseModel$KnowDiskModel" ({ cls := "KnowHouseModel$KnowDiskModel", name := "wrong", desc := "(I)I" } : Jvm.MethodName) ({ cls := "KnowHouseModel$KnowDiskModel", name := "wrong", desc := "(I)I" } : Jvm.MethodName)) ∈ lw_all := lw_g (lw_at lw_m36 76 rfl) rfl
theorem q8955 : (Jvm.Cond.code ({ cls := "KnowHouseModel$KnowDiskModel", name := "wrong", desc := "(I)I" } : Jvm.MethodName) prog_84_method_34_code (5 : Nat) (Option.some Jvm.ClassFile.FieldType.int)) ∈ lw_all := lw_g (lw_at lw_m36 77 rfl) rfl
theorem q8956 : (Jvm.Cond.methodLink "KnowHouseModel" (1039 : Nat) ({ cls := "KnowHouseModel$KnowDiskModel", name := "backup", desc := "(I)I" } : Jvm.MethodName)) ∈ lw_all := lw_g (lw_at lw_m36 78 rfl) rfl
theorem q8957 : (Jvm.Cond.instanceMethod ({ cls := "KnowHouseModel$KnowDiskModel", name := "backup", desc := "(I)I" } : Jvm.MethodName)) ∈ lw_all := lw_g (lw_at lw_m36 79 rfl) rfl
theorem q8958 : (Jvm.Cond.selects "KnowHouseModel$KnowDiskModel" ({ cls := "KnowHouseModel$KnowDiskModel", name := "backup", desc := "(I)I" } : Jvm.MethodName) ({ cls := "KnowHouseModel$KnowDiskModel", name := "backup", desc := "(I)I" } : Jvm.MethodName)) ∈ lw_all := lw_g (lw_at lw_m36 80 rfl) rfl
theorem q8959 : (Jvm.Cond.code ({ cls := "KnowHouseModel$KnowDiskModel", name := "backup", desc := "(I)I" } : Jvm.MethodName) prog_84_method_36_code (2 : Nat) (Option.some Jvm.ClassFile.FieldType.int)) ∈ lw_all := lw_g (lw_at lw_m36 81 rfl) rfl
theorem q8963 : (Jvm.Cond.methodLink "KnowHouseModel" (1042 : Nat) ({ cls := "KnowHouseModel$KnowDiskModel", name := "drop", desc := "(I)I" } : Jvm.MethodName)) ∈ lw_all := lw_g (lw_at lw_m36 85 rfl) rfl
theorem q8964 : (Jvm.Cond.instanceMethod ({ cls := "KnowHouseModel$KnowDiskModel", name := "drop", desc := "(I)I" } : Jvm.MethodName)) ∈ lw_all := lw_g (lw_at lw_m36 86 rfl) rfl
theorem q8965 : (Jvm.Cond.selects "KnowHouseModel$KnowDiskModel" ({ cls := "KnowHouseModel$KnowDiskModel", name := "drop", desc := "(I)I" } : Jvm.MethodName) ({ cls := "KnowHouseModel$KnowDiskModel", name := "drop", desc := "(I)I" } : Jvm.MethodName)) ∈ lw_all := lw_g (lw_at lw_m36 87 rfl) rfl
theorem q8966 : (Jvm.Cond.code ({ cls := "KnowHouseModel$KnowDiskModel", name := "drop", desc := "(I)I" } : Jvm.MethodName) prog_84_method_38_code (5 : Nat) (Option.some Jvm.ClassFile.FieldType.int)) ∈ lw_all := lw_g (lw_at lw_m36 88 rfl) rfl
theorem q8971 : (Jvm.Cond.methodLink "KnowHouseModel" (1043 : Nat) ({ cls := "KnowHouseModel$KnowDiskModel", name := "derived", desc := "(I)I" } : Jvm.MethodName)) ∈ lw_all := lw_g (lw_at lw_m36 93 rfl) rfl
theorem q8972 : (Jvm.Cond.instanceMethod ({ cls := "KnowHouseModel$KnowDiskModel", name := "derived", desc := "(I)I" } : Jvm.MethodName)) ∈ lw_all := lw_g (lw_at lw_m36 94 rfl) rfl
theorem q8973 : (Jvm.Cond.selects "KnowHouseModel$KnowDiskModel" ({ cls := "KnowHouseModel$KnowDiskModel", name := "derived", desc := "(I)I" } : Jvm.MethodName) ({ cls := "KnowHouseModel$KnowDiskModel", name := "derived", desc := "(I)I" } : Jvm.MethodName)) ∈ lw_all := lw_g (lw_at lw_m36 95 rfl) rfl
theorem q8974 : (Jvm.Cond.code ({ cls := "KnowHouseModel$KnowDiskModel", name := "derived", desc := "(I)I" } : Jvm.MethodName) prog_84_method_22_code (7 : Nat) (Option.some Jvm.ClassFile.FieldType.int)) ∈ lw_all := lw_g (lw_at lw_m36 96 rfl) rfl
theorem q8975 : (Jvm.Cond.methodLink "KnowHouseModel" (1046 : Nat) ({ cls := "KnowHouseModel$KnowDiskModel", name := "full", desc := "(Z)Z" } : Jvm.MethodName)) ∈ lw_all := lw_g (lw_at lw_m36 97 rfl) rfl
theorem q8976 : (Jvm.Cond.instanceMethod ({ cls := "KnowHouseModel$KnowDiskModel", name := "full", desc := "(Z)Z" } : Jvm.MethodName)) ∈ lw_all := lw_g (lw_at lw_m36 98 rfl) rfl
theorem q8977 : (Jvm.Cond.selects "KnowHouseModel$KnowDiskModel" ({ cls := "KnowHouseModel$KnowDiskModel", name := "full", desc := "(Z)Z" } : Jvm.MethodName) ({ cls := "KnowHouseModel$KnowDiskModel", name := "full", desc := "(Z)Z" } : Jvm.MethodName)) ∈ lw_all := lw_g (lw_at lw_m36 99 rfl) rfl
theorem q8978 : (Jvm.Cond.code ({ cls := "KnowHouseModel$KnowDiskModel", name := "full", desc := "(Z)Z" } : Jvm.MethodName) prog_84_method_39_code (3 : Nat) (Option.some Jvm.ClassFile.FieldType.boolean)) ∈ lw_all := lw_g (lw_at lw_m36 100 rfl) rfl
theorem hSRX53_drop : "KnowHouseModel$FacetCountsModel" ≠ "java/lang/invoke/MethodHandle" ∧ "KnowHouseModel$FacetCountsModel" ≠ "java/lang/invoke/VarHandle" ∧ (parseMethodDescriptor "(III)I").map (fun d => d.parameters.length) = some 3 := by decide +kernel
theorem hSRX55_remove : "KnowHouseModel$RuleEngineModel" ≠ "java/lang/invoke/MethodHandle" ∧ "KnowHouseModel$RuleEngineModel" ≠ "java/lang/invoke/VarHandle" ∧ (parseMethodDescriptor "(III)I").map (fun d => d.parameters.length) = some 3 := by decide +kernel
theorem hSRX55_fact : "KnowHouseModel$RuleEngineModel" ≠ "java/lang/invoke/MethodHandle" ∧ "KnowHouseModel$RuleEngineModel" ≠ "java/lang/invoke/VarHandle" ∧ (parseMethodDescriptor "(III)I").map (fun d => d.parameters.length) = some 3 := by decide +kernel
theorem hSRX53_row : "KnowHouseModel$FacetCountsModel" ≠ "java/lang/invoke/MethodHandle" ∧ "KnowHouseModel$FacetCountsModel" ≠ "java/lang/invoke/VarHandle" ∧ (parseMethodDescriptor "(III)I").map (fun d => d.parameters.length) = some 3 := by decide +kernel
theorem hSRX48_latest : "KnowHouseModel$VersionTransModel" ≠ "java/lang/invoke/MethodHandle" ∧ "KnowHouseModel$VersionTransModel" ≠ "java/lang/invoke/VarHandle" ∧ (parseMethodDescriptor "()I").map (fun d => d.parameters.length) = some 0 := by decide +kernel
theorem hSRX51_may : "KnowHouseModel$RightDeskModel" ≠ "java/lang/invoke/MethodHandle" ∧ "KnowHouseModel$RightDeskModel" ≠ "java/lang/invoke/VarHandle" ∧ (parseMethodDescriptor "(IIIIII)I").map (fun d => d.parameters.length) = some 6 := by decide +kernel
theorem hSRX48_begin : "KnowHouseModel$VersionTransModel" ≠ "java/lang/invoke/MethodHandle" ∧ "KnowHouseModel$VersionTransModel" ≠ "java/lang/invoke/VarHandle" ∧ (parseMethodDescriptor "()I").map (fun d => d.parameters.length) = some 0 := by decide +kernel
theorem hSRX48_thrown : "KnowHouseModel$VersionTransModel" ≠ "java/lang/invoke/MethodHandle" ∧ "KnowHouseModel$VersionTransModel" ≠ "java/lang/invoke/VarHandle" ∧ (parseMethodDescriptor "()I").map (fun d => d.parameters.length) = some 0 := by decide +kernel
theorem hSRX48_put : "KnowHouseModel$VersionTransModel" ≠ "java/lang/invoke/MethodHandle" ∧ "KnowHouseModel$VersionTransModel" ≠ "java/lang/invoke/VarHandle" ∧ (parseMethodDescriptor "(IIZ)I").map (fun d => d.parameters.length) = some 3 := by decide +kernel
theorem hSRX48_commit : "KnowHouseModel$VersionTransModel" ≠ "java/lang/invoke/MethodHandle" ∧ "KnowHouseModel$VersionTransModel" ≠ "java/lang/invoke/VarHandle" ∧ (parseMethodDescriptor "(I)I").map (fun d => d.parameters.length) = some 1 := by decide +kernel
theorem hSRX48_abort : "KnowHouseModel$VersionTransModel" ≠ "java/lang/invoke/MethodHandle" ∧ "KnowHouseModel$VersionTransModel" ≠ "java/lang/invoke/VarHandle" ∧ (parseMethodDescriptor "(I)I").map (fun d => d.parameters.length) = some 1 := by decide +kernel
theorem hSRX48_told : "KnowHouseModel$VersionTransModel" ≠ "java/lang/invoke/MethodHandle" ∧ "KnowHouseModel$VersionTransModel" ≠ "java/lang/invoke/VarHandle" ∧ (parseMethodDescriptor "(II)Z").map (fun d => d.parameters.length) = some 2 := by decide +kernel
theorem hSRX47_keep : "KnowHouseModel$CanonNamesModel" ≠ "java/lang/invoke/MethodHandle" ∧ "KnowHouseModel$CanonNamesModel" ≠ "java/lang/invoke/VarHandle" ∧ (parseMethodDescriptor "()I").map (fun d => d.parameters.length) = some 0 := by decide +kernel
theorem hSRX47_blank : "KnowHouseModel$CanonNamesModel" ≠ "java/lang/invoke/MethodHandle" ∧ "KnowHouseModel$CanonNamesModel" ≠ "java/lang/invoke/VarHandle" ∧ (parseMethodDescriptor "()I").map (fun d => d.parameters.length) = some 0 := by decide +kernel
theorem hSRX47_triple : "KnowHouseModel$CanonNamesModel" ≠ "java/lang/invoke/MethodHandle" ∧ "KnowHouseModel$CanonNamesModel" ≠ "java/lang/invoke/VarHandle" ∧ (parseMethodDescriptor "(III)I").map (fun d => d.parameters.length) = some 3 := by decide +kernel
theorem hSRX47_name : "KnowHouseModel$CanonNamesModel" ≠ "java/lang/invoke/MethodHandle" ∧ "KnowHouseModel$CanonNamesModel" ≠ "java/lang/invoke/VarHandle" ∧ (parseMethodDescriptor "(J)I").map (fun d => d.parameters.length) = some 1 := by decide +kernel
theorem hSRX47_isomorphic : "KnowHouseModel$CanonNamesModel" ≠ "java/lang/invoke/MethodHandle" ∧ "KnowHouseModel$CanonNamesModel" ≠ "java/lang/invoke/VarHandle" ∧ (parseMethodDescriptor "(I)I").map (fun d => d.parameters.length) = some 1 := by decide +kernel
theorem hSRX52_axiom : "KnowHouseModel$ClassifySortModel" ≠ "java/lang/invoke/MethodHandle" ∧ "KnowHouseModel$ClassifySortModel" ≠ "java/lang/invoke/VarHandle" ∧ (parseMethodDescriptor "(III)I").map (fun d => d.parameters.length) = some 3 := by decide +kernel
theorem hSRX53_above : "KnowHouseModel$FacetCountsModel" ≠ "java/lang/invoke/MethodHandle" ∧ "KnowHouseModel$FacetCountsModel" ≠ "java/lang/invoke/VarHandle" ∧ (parseMethodDescriptor "(II)I").map (fun d => d.parameters.length) = some 2 := by decide +kernel
theorem hSRX56_axiom : "KnowHouseModel$QlRewriteModel" ≠ "java/lang/invoke/MethodHandle" ∧ "KnowHouseModel$QlRewriteModel" ≠ "java/lang/invoke/VarHandle" ∧ (parseMethodDescriptor "(III)I").map (fun d => d.parameters.length) = some 3 := by decide +kernel
theorem hSRX52_put : "KnowHouseModel$ClassifySortModel" ≠ "java/lang/invoke/MethodHandle" ∧ "KnowHouseModel$ClassifySortModel" ≠ "java/lang/invoke/VarHandle" ∧ (parseMethodDescriptor "(II)I").map (fun d => d.parameters.length) = some 2 := by decide +kernel
theorem hSRX56_fact : "KnowHouseModel$QlRewriteModel" ≠ "java/lang/invoke/MethodHandle" ∧ "KnowHouseModel$QlRewriteModel" ≠ "java/lang/invoke/VarHandle" ∧ (parseMethodDescriptor "(ZIII)I").map (fun d => d.parameters.length) = some 4 := by decide +kernel
theorem hSRX52_run : "KnowHouseModel$ClassifySortModel" ≠ "java/lang/invoke/MethodHandle" ∧ "KnowHouseModel$ClassifySortModel" ≠ "java/lang/invoke/VarHandle" ∧ (parseMethodDescriptor "()I").map (fun d => d.parameters.length) = some 0 := by decide +kernel
theorem hSRX52_count : "KnowHouseModel$ClassifySortModel" ≠ "java/lang/invoke/MethodHandle" ∧ "KnowHouseModel$ClassifySortModel" ≠ "java/lang/invoke/VarHandle" ∧ (parseMethodDescriptor "(I)I").map (fun d => d.parameters.length) = some 1 := by decide +kernel
theorem hSRX52_parent : "KnowHouseModel$ClassifySortModel" ≠ "java/lang/invoke/MethodHandle" ∧ "KnowHouseModel$ClassifySortModel" ≠ "java/lang/invoke/VarHandle" ∧ (parseMethodDescriptor "(II)I").map (fun d => d.parameters.length) = some 2 := by decide +kernel
theorem hSRX54_run : "KnowHouseModel$VirtualRewriteModel" ≠ "java/lang/invoke/MethodHandle" ∧ "KnowHouseModel$VirtualRewriteModel" ≠ "java/lang/invoke/VarHandle" ∧ (parseMethodDescriptor "()I").map (fun d => d.parameters.length) = some 0 := by decide +kernel
theorem hSRX54_value : "KnowHouseModel$VirtualRewriteModel" ≠ "java/lang/invoke/MethodHandle" ∧ "KnowHouseModel$VirtualRewriteModel" ≠ "java/lang/invoke/VarHandle" ∧ (parseMethodDescriptor "(II)I").map (fun d => d.parameters.length) = some 2 := by decide +kernel
theorem hSRX54_thrown : "KnowHouseModel$VirtualRewriteModel" ≠ "java/lang/invoke/MethodHandle" ∧ "KnowHouseModel$VirtualRewriteModel" ≠ "java/lang/invoke/VarHandle" ∧ (parseMethodDescriptor "()I").map (fun d => d.parameters.length) = some 0 := by decide +kernel
theorem hSRX53_kept : "KnowHouseModel$FacetCountsModel" ≠ "java/lang/invoke/MethodHandle" ∧ "KnowHouseModel$FacetCountsModel" ≠ "java/lang/invoke/VarHandle" ∧ (parseMethodDescriptor "()I").map (fun d => d.parameters.length) = some 0 := by decide +kernel
theorem hSRX47_triples : "KnowHouseModel$CanonNamesModel" ≠ "java/lang/invoke/MethodHandle" ∧ "KnowHouseModel$CanonNamesModel" ≠ "java/lang/invoke/VarHandle" ∧ (parseMethodDescriptor "()I").map (fun d => d.parameters.length) = some 0 := by decide +kernel
theorem hSRX57_page : "KnowHouseModel$KnowDiskModel" ≠ "java/lang/invoke/MethodHandle" ∧ "KnowHouseModel$KnowDiskModel" ≠ "java/lang/invoke/VarHandle" ∧ (parseMethodDescriptor "(IIJ)I").map (fun d => d.parameters.length) = some 3 := by decide +kernel
theorem hSRX57_commit : "KnowHouseModel$KnowDiskModel" ≠ "java/lang/invoke/MethodHandle" ∧ "KnowHouseModel$KnowDiskModel" ≠ "java/lang/invoke/VarHandle" ∧ (parseMethodDescriptor "(I)I").map (fun d => d.parameters.length) = some 1 := by decide +kernel
theorem hSRX57_sync : "KnowHouseModel$KnowDiskModel" ≠ "java/lang/invoke/MethodHandle" ∧ "KnowHouseModel$KnowDiskModel" ≠ "java/lang/invoke/VarHandle" ∧ (parseMethodDescriptor "()I").map (fun d => d.parameters.length) = some 0 := by decide +kernel
theorem hSRX55_holds : "KnowHouseModel$RuleEngineModel" ≠ "java/lang/invoke/MethodHandle" ∧ "KnowHouseModel$RuleEngineModel" ≠ "java/lang/invoke/VarHandle" ∧ (parseMethodDescriptor "(III)I").map (fun d => d.parameters.length) = some 3 := by decide +kernel
theorem hSRX47_drop : "KnowHouseModel$CanonNamesModel" ≠ "java/lang/invoke/MethodHandle" ∧ "KnowHouseModel$CanonNamesModel" ≠ "java/lang/invoke/VarHandle" ∧ (parseMethodDescriptor "(III)I").map (fun d => d.parameters.length) = some 3 := by decide +kernel
theorem hSRX47_named : "KnowHouseModel$CanonNamesModel" ≠ "java/lang/invoke/MethodHandle" ∧ "KnowHouseModel$CanonNamesModel" ≠ "java/lang/invoke/VarHandle" ∧ (parseMethodDescriptor "(I)I").map (fun d => d.parameters.length) = some 1 := by decide +kernel
theorem hSRX47_form : "KnowHouseModel$CanonNamesModel" ≠ "java/lang/invoke/MethodHandle" ∧ "KnowHouseModel$CanonNamesModel" ≠ "java/lang/invoke/VarHandle" ∧ (parseMethodDescriptor "(II)I").map (fun d => d.parameters.length) = some 2 := by decide +kernel
theorem hSRX47_hash : "KnowHouseModel$CanonNamesModel" ≠ "java/lang/invoke/MethodHandle" ∧ "KnowHouseModel$CanonNamesModel" ≠ "java/lang/invoke/VarHandle" ∧ (parseMethodDescriptor "(II)I").map (fun d => d.parameters.length) = some 2 := by decide +kernel
theorem hSRX47_rounds : "KnowHouseModel$CanonNamesModel" ≠ "java/lang/invoke/MethodHandle" ∧ "KnowHouseModel$CanonNamesModel" ≠ "java/lang/invoke/VarHandle" ∧ (parseMethodDescriptor "()I").map (fun d => d.parameters.length) = some 0 := by decide +kernel
theorem hSRX47_first : "KnowHouseModel$CanonNamesModel" ≠ "java/lang/invoke/MethodHandle" ∧ "KnowHouseModel$CanonNamesModel" ≠ "java/lang/invoke/VarHandle" ∧ (parseMethodDescriptor "(II)I").map (fun d => d.parameters.length) = some 2 := by decide +kernel
theorem hSRX47_ways : "KnowHouseModel$CanonNamesModel" ≠ "java/lang/invoke/MethodHandle" ∧ "KnowHouseModel$CanonNamesModel" ≠ "java/lang/invoke/VarHandle" ∧ (parseMethodDescriptor "(I)I").map (fun d => d.parameters.length) = some 1 := by decide +kernel
theorem hSRX47_equal : "KnowHouseModel$CanonNamesModel" ≠ "java/lang/invoke/MethodHandle" ∧ "KnowHouseModel$CanonNamesModel" ≠ "java/lang/invoke/VarHandle" ∧ (parseMethodDescriptor "(I)I").map (fun d => d.parameters.length) = some 1 := by decide +kernel
theorem hSRX47_blanks : "KnowHouseModel$CanonNamesModel" ≠ "java/lang/invoke/MethodHandle" ∧ "KnowHouseModel$CanonNamesModel" ≠ "java/lang/invoke/VarHandle" ∧ (parseMethodDescriptor "()I").map (fun d => d.parameters.length) = some 0 := by decide +kernel
theorem hSRX48_look : "KnowHouseModel$VersionTransModel" ≠ "java/lang/invoke/MethodHandle" ∧ "KnowHouseModel$VersionTransModel" ≠ "java/lang/invoke/VarHandle" ∧ (parseMethodDescriptor "(I)I").map (fun d => d.parameters.length) = some 1 := by decide +kernel
theorem hSRX48_note : "KnowHouseModel$VersionTransModel" ≠ "java/lang/invoke/MethodHandle" ∧ "KnowHouseModel$VersionTransModel" ≠ "java/lang/invoke/VarHandle" ∧ (parseMethodDescriptor "(II)I").map (fun d => d.parameters.length) = some 2 := by decide +kernel
theorem hSRX48_read : "KnowHouseModel$VersionTransModel" ≠ "java/lang/invoke/MethodHandle" ∧ "KnowHouseModel$VersionTransModel" ≠ "java/lang/invoke/VarHandle" ∧ (parseMethodDescriptor "(II)Z").map (fun d => d.parameters.length) = some 2 := by decide +kernel
theorem hSRX48_pin : "KnowHouseModel$VersionTransModel" ≠ "java/lang/invoke/MethodHandle" ∧ "KnowHouseModel$VersionTransModel" ≠ "java/lang/invoke/VarHandle" ∧ (parseMethodDescriptor "(I)I").map (fun d => d.parameters.length) = some 1 := by decide +kernel
theorem hSRX48_unpin : "KnowHouseModel$VersionTransModel" ≠ "java/lang/invoke/MethodHandle" ∧ "KnowHouseModel$VersionTransModel" ≠ "java/lang/invoke/VarHandle" ∧ (parseMethodDescriptor "(I)I").map (fun d => d.parameters.length) = some 1 := by decide +kernel
theorem hSRX48_free : "KnowHouseModel$VersionTransModel" ≠ "java/lang/invoke/MethodHandle" ∧ "KnowHouseModel$VersionTransModel" ≠ "java/lang/invoke/VarHandle" ∧ (parseMethodDescriptor "()I").map (fun d => d.parameters.length) = some 0 := by decide +kernel
theorem hSRX48_rows : "KnowHouseModel$VersionTransModel" ≠ "java/lang/invoke/MethodHandle" ∧ "KnowHouseModel$VersionTransModel" ≠ "java/lang/invoke/VarHandle" ∧ (parseMethodDescriptor "()I").map (fun d => d.parameters.length) = some 0 := by decide +kernel
theorem hSRX48_least : "KnowHouseModel$VersionTransModel" ≠ "java/lang/invoke/MethodHandle" ∧ "KnowHouseModel$VersionTransModel" ≠ "java/lang/invoke/VarHandle" ∧ (parseMethodDescriptor "()I").map (fun d => d.parameters.length) = some 0 := by decide +kernel
theorem hSRX48_state : "KnowHouseModel$VersionTransModel" ≠ "java/lang/invoke/MethodHandle" ∧ "KnowHouseModel$VersionTransModel" ≠ "java/lang/invoke/VarHandle" ∧ (parseMethodDescriptor "(I)I").map (fun d => d.parameters.length) = some 1 := by decide +kernel
theorem hSRX48_waits : "KnowHouseModel$VersionTransModel" ≠ "java/lang/invoke/MethodHandle" ∧ "KnowHouseModel$VersionTransModel" ≠ "java/lang/invoke/VarHandle" ∧ (parseMethodDescriptor "(I)I").map (fun d => d.parameters.length) = some 1 := by decide +kernel
theorem hSRX48_ring : "KnowHouseModel$VersionTransModel" ≠ "java/lang/invoke/MethodHandle" ∧ "KnowHouseModel$VersionTransModel" ≠ "java/lang/invoke/VarHandle" ∧ (parseMethodDescriptor "(I)I").map (fun d => d.parameters.length) = some 1 := by decide +kernel
theorem hSRX48_conflicts : "KnowHouseModel$VersionTransModel" ≠ "java/lang/invoke/MethodHandle" ∧ "KnowHouseModel$VersionTransModel" ≠ "java/lang/invoke/VarHandle" ∧ (parseMethodDescriptor "(II)I").map (fun d => d.parameters.length) = some 2 := by decide +kernel
theorem hSRX49_type : "KnowHouseModel$DatatypeValuesModel" ≠ "java/lang/invoke/MethodHandle" ∧ "KnowHouseModel$DatatypeValuesModel" ≠ "java/lang/invoke/VarHandle" ∧ (parseMethodDescriptor "(JI)I").map (fun d => d.parameters.length) = some 2 := by decide +kernel
theorem hSRX49_read : "KnowHouseModel$DatatypeValuesModel" ≠ "java/lang/invoke/MethodHandle" ∧ "KnowHouseModel$DatatypeValuesModel" ≠ "java/lang/invoke/VarHandle" ∧ (parseMethodDescriptor "(I)I").map (fun d => d.parameters.length) = some 1 := by decide +kernel
theorem hSRX49_values : "KnowHouseModel$DatatypeValuesModel" ≠ "java/lang/invoke/MethodHandle" ∧ "KnowHouseModel$DatatypeValuesModel" ≠ "java/lang/invoke/VarHandle" ∧ (parseMethodDescriptor "()I").map (fun d => d.parameters.length) = some 0 := by decide +kernel
theorem hSRX49_kind : "KnowHouseModel$DatatypeValuesModel" ≠ "java/lang/invoke/MethodHandle" ∧ "KnowHouseModel$DatatypeValuesModel" ≠ "java/lang/invoke/VarHandle" ∧ (parseMethodDescriptor "(I)I").map (fun d => d.parameters.length) = some 1 := by decide +kernel
theorem hSRX49_compare : "KnowHouseModel$DatatypeValuesModel" ≠ "java/lang/invoke/MethodHandle" ∧ "KnowHouseModel$DatatypeValuesModel" ≠ "java/lang/invoke/VarHandle" ∧ (parseMethodDescriptor "(II)I").map (fun d => d.parameters.length) = some 2 := by decide +kernel
theorem hSRX49_part : "KnowHouseModel$DatatypeValuesModel" ≠ "java/lang/invoke/MethodHandle" ∧ "KnowHouseModel$DatatypeValuesModel" ≠ "java/lang/invoke/VarHandle" ∧ (parseMethodDescriptor "(II)J").map (fun d => d.parameters.length) = some 2 := by decide +kernel
theorem hSRX49_byteOf : "KnowHouseModel$DatatypeValuesModel" ≠ "java/lang/invoke/MethodHandle" ∧ "KnowHouseModel$DatatypeValuesModel" ≠ "java/lang/invoke/VarHandle" ∧ (parseMethodDescriptor "(II)I").map (fun d => d.parameters.length) = some 2 := by decide +kernel
theorem hSRX49_tell : "KnowHouseModel$DatatypeValuesModel" ≠ "java/lang/invoke/MethodHandle" ∧ "KnowHouseModel$DatatypeValuesModel" ≠ "java/lang/invoke/VarHandle" ∧ (parseMethodDescriptor "(I)I").map (fun d => d.parameters.length) = some 1 := by decide +kernel
theorem hSRX49_told : "KnowHouseModel$DatatypeValuesModel" ≠ "java/lang/invoke/MethodHandle" ∧ "KnowHouseModel$DatatypeValuesModel" ≠ "java/lang/invoke/VarHandle" ∧ (parseMethodDescriptor "(I)I").map (fun d => d.parameters.length) = some 1 := by decide +kernel
theorem hSRX49_apply : "KnowHouseModel$DatatypeValuesModel" ≠ "java/lang/invoke/MethodHandle" ∧ "KnowHouseModel$DatatypeValuesModel" ≠ "java/lang/invoke/VarHandle" ∧ (parseMethodDescriptor "(III)I").map (fun d => d.parameters.length) = some 3 := by decide +kernel
theorem hSRX50_axiom : "KnowHouseModel$ProofCheckerModel" ≠ "java/lang/invoke/MethodHandle" ∧ "KnowHouseModel$ProofCheckerModel" ≠ "java/lang/invoke/VarHandle" ∧ (parseMethodDescriptor "(III)I").map (fun d => d.parameters.length) = some 3 := by decide +kernel
theorem hSRX50_triple : "KnowHouseModel$ProofCheckerModel" ≠ "java/lang/invoke/MethodHandle" ∧ "KnowHouseModel$ProofCheckerModel" ≠ "java/lang/invoke/VarHandle" ∧ (parseMethodDescriptor "(III)I").map (fun d => d.parameters.length) = some 3 := by decide +kernel
theorem hSRX50_row : "KnowHouseModel$ProofCheckerModel" ≠ "java/lang/invoke/MethodHandle" ∧ "KnowHouseModel$ProofCheckerModel" ≠ "java/lang/invoke/VarHandle" ∧ (parseMethodDescriptor "(III)I").map (fun d => d.parameters.length) = some 3 := by decide +kernel
theorem hSRX50_premise : "KnowHouseModel$ProofCheckerModel" ≠ "java/lang/invoke/MethodHandle" ∧ "KnowHouseModel$ProofCheckerModel" ≠ "java/lang/invoke/VarHandle" ∧ (parseMethodDescriptor "(II)I").map (fun d => d.parameters.length) = some 2 := by decide +kernel
theorem hSRX50_check : "KnowHouseModel$ProofCheckerModel" ≠ "java/lang/invoke/MethodHandle" ∧ "KnowHouseModel$ProofCheckerModel" ≠ "java/lang/invoke/VarHandle" ∧ (parseMethodDescriptor "(I)I").map (fun d => d.parameters.length) = some 1 := by decide +kernel
theorem hSRX50_broken : "KnowHouseModel$ProofCheckerModel" ≠ "java/lang/invoke/MethodHandle" ∧ "KnowHouseModel$ProofCheckerModel" ≠ "java/lang/invoke/VarHandle" ∧ (parseMethodDescriptor "()I").map (fun d => d.parameters.length) = some 0 := by decide +kernel
theorem hSRX50_rows : "KnowHouseModel$ProofCheckerModel" ≠ "java/lang/invoke/MethodHandle" ∧ "KnowHouseModel$ProofCheckerModel" ≠ "java/lang/invoke/VarHandle" ∧ (parseMethodDescriptor "(I)I").map (fun d => d.parameters.length) = some 1 := by decide +kernel
theorem hSRX50_size : "KnowHouseModel$ProofCheckerModel" ≠ "java/lang/invoke/MethodHandle" ∧ "KnowHouseModel$ProofCheckerModel" ≠ "java/lang/invoke/VarHandle" ∧ (parseMethodDescriptor "(I)I").map (fun d => d.parameters.length) = some 1 := by decide +kernel
theorem hSRX50_drop : "KnowHouseModel$ProofCheckerModel" ≠ "java/lang/invoke/MethodHandle" ∧ "KnowHouseModel$ProofCheckerModel" ≠ "java/lang/invoke/VarHandle" ∧ (parseMethodDescriptor "(I)I").map (fun d => d.parameters.length) = some 1 := by decide +kernel
theorem hSRX50_name : "KnowHouseModel$ProofCheckerModel" ≠ "java/lang/invoke/MethodHandle" ∧ "KnowHouseModel$ProofCheckerModel" ≠ "java/lang/invoke/VarHandle" ∧ (parseMethodDescriptor "(I)I").map (fun d => d.parameters.length) = some 1 := by decide +kernel
theorem hSRX50_states : "KnowHouseModel$ProofCheckerModel" ≠ "java/lang/invoke/MethodHandle" ∧ "KnowHouseModel$ProofCheckerModel" ≠ "java/lang/invoke/VarHandle" ∧ (parseMethodDescriptor "(II)I").map (fun d => d.parameters.length) = some 2 := by decide +kernel
theorem hSRX50_sentence : "KnowHouseModel$ProofCheckerModel" ≠ "java/lang/invoke/MethodHandle" ∧ "KnowHouseModel$ProofCheckerModel" ≠ "java/lang/invoke/VarHandle" ∧ (parseMethodDescriptor "(I)I").map (fun d => d.parameters.length) = some 1 := by decide +kernel
theorem hSRX50_at : "KnowHouseModel$ProofCheckerModel" ≠ "java/lang/invoke/MethodHandle" ∧ "KnowHouseModel$ProofCheckerModel" ≠ "java/lang/invoke/VarHandle" ∧ (parseMethodDescriptor "(I)I").map (fun d => d.parameters.length) = some 1 := by decide +kernel
theorem hSRX50_concludes : "KnowHouseModel$ProofCheckerModel" ≠ "java/lang/invoke/MethodHandle" ∧ "KnowHouseModel$ProofCheckerModel" ≠ "java/lang/invoke/VarHandle" ∧ (parseMethodDescriptor "(II)Z").map (fun d => d.parameters.length) = some 2 := by decide +kernel
theorem hSRX51_member : "KnowHouseModel$RightDeskModel" ≠ "java/lang/invoke/MethodHandle" ∧ "KnowHouseModel$RightDeskModel" ≠ "java/lang/invoke/VarHandle" ∧ (parseMethodDescriptor "(IIZ)I").map (fun d => d.parameters.length) = some 3 := by decide +kernel
theorem hSRX51_condition : "KnowHouseModel$RightDeskModel" ≠ "java/lang/invoke/MethodHandle" ∧ "KnowHouseModel$RightDeskModel" ≠ "java/lang/invoke/VarHandle" ∧ (parseMethodDescriptor "(IIII)I").map (fun d => d.parameters.length) = some 4 := by decide +kernel
theorem hSRX51_rule : "KnowHouseModel$RightDeskModel" ≠ "java/lang/invoke/MethodHandle" ∧ "KnowHouseModel$RightDeskModel" ≠ "java/lang/invoke/VarHandle" ∧ (parseMethodDescriptor "(IZI)I").map (fun d => d.parameters.length) = some 3 := by decide +kernel
theorem hSRX51_drop : "KnowHouseModel$RightDeskModel" ≠ "java/lang/invoke/MethodHandle" ∧ "KnowHouseModel$RightDeskModel" ≠ "java/lang/invoke/VarHandle" ∧ (parseMethodDescriptor "(I)I").map (fun d => d.parameters.length) = some 1 := by decide +kernel
theorem hSRX51_asks : "KnowHouseModel$RightDeskModel" ≠ "java/lang/invoke/MethodHandle" ∧ "KnowHouseModel$RightDeskModel" ≠ "java/lang/invoke/VarHandle" ∧ (parseMethodDescriptor "(I)I").map (fun d => d.parameters.length) = some 1 := by decide +kernel
theorem hSRX51_ask : "KnowHouseModel$RightDeskModel" ≠ "java/lang/invoke/MethodHandle" ∧ "KnowHouseModel$RightDeskModel" ≠ "java/lang/invoke/VarHandle" ∧ (parseMethodDescriptor "(II)I").map (fun d => d.parameters.length) = some 2 := by decide +kernel
theorem hSRX51_within : "KnowHouseModel$RightDeskModel" ≠ "java/lang/invoke/MethodHandle" ∧ "KnowHouseModel$RightDeskModel" ≠ "java/lang/invoke/VarHandle" ∧ (parseMethodDescriptor "(II)I").map (fun d => d.parameters.length) = some 2 := by decide +kernel
theorem hSRX51_decides : "KnowHouseModel$RightDeskModel" ≠ "java/lang/invoke/MethodHandle" ∧ "KnowHouseModel$RightDeskModel" ≠ "java/lang/invoke/VarHandle" ∧ (parseMethodDescriptor "(I)I").map (fun d => d.parameters.length) = some 1 := by decide +kernel
theorem hSRX51_sees : "KnowHouseModel$RightDeskModel" ≠ "java/lang/invoke/MethodHandle" ∧ "KnowHouseModel$RightDeskModel" ≠ "java/lang/invoke/VarHandle" ∧ (parseMethodDescriptor "(II)I").map (fun d => d.parameters.length) = some 2 := by decide +kernel
theorem hSRX51_matters : "KnowHouseModel$RightDeskModel" ≠ "java/lang/invoke/MethodHandle" ∧ "KnowHouseModel$RightDeskModel" ≠ "java/lang/invoke/VarHandle" ∧ (parseMethodDescriptor "(I)I").map (fun d => d.parameters.length) = some 1 := by decide +kernel
theorem hSRX51_idle : "KnowHouseModel$RightDeskModel" ≠ "java/lang/invoke/MethodHandle" ∧ "KnowHouseModel$RightDeskModel" ≠ "java/lang/invoke/VarHandle" ∧ (parseMethodDescriptor "(ZI)I").map (fun d => d.parameters.length) = some 2 := by decide +kernel
theorem hSRX51_apart : "KnowHouseModel$RightDeskModel" ≠ "java/lang/invoke/MethodHandle" ∧ "KnowHouseModel$RightDeskModel" ≠ "java/lang/invoke/VarHandle" ∧ (parseMethodDescriptor "(II)I").map (fun d => d.parameters.length) = some 2 := by decide +kernel
theorem hSRX51_allowed : "KnowHouseModel$RightDeskModel" ≠ "java/lang/invoke/MethodHandle" ∧ "KnowHouseModel$RightDeskModel" ≠ "java/lang/invoke/VarHandle" ∧ (parseMethodDescriptor "()I").map (fun d => d.parameters.length) = some 0 := by decide +kernel
theorem hSRX51_conditions : "KnowHouseModel$RightDeskModel" ≠ "java/lang/invoke/MethodHandle" ∧ "KnowHouseModel$RightDeskModel" ≠ "java/lang/invoke/VarHandle" ∧ (parseMethodDescriptor "()I").map (fun d => d.parameters.length) = some 0 := by decide +kernel
theorem hSRX51_rules : "KnowHouseModel$RightDeskModel" ≠ "java/lang/invoke/MethodHandle" ∧ "KnowHouseModel$RightDeskModel" ≠ "java/lang/invoke/VarHandle" ∧ (parseMethodDescriptor "()I").map (fun d => d.parameters.length) = some 0 := by decide +kernel
theorem hSRX52_class0 : "KnowHouseModel$ClassifySortModel" ≠ "java/lang/invoke/MethodHandle" ∧ "KnowHouseModel$ClassifySortModel" ≠ "java/lang/invoke/VarHandle" ∧ (parseMethodDescriptor "()I").map (fun d => d.parameters.length) = some 0 := by decide +kernel
theorem hSRX52_thing : "KnowHouseModel$ClassifySortModel" ≠ "java/lang/invoke/MethodHandle" ∧ "KnowHouseModel$ClassifySortModel" ≠ "java/lang/invoke/VarHandle" ∧ (parseMethodDescriptor "()I").map (fun d => d.parameters.length) = some 0 := by decide +kernel
theorem hSRX52_remove : "KnowHouseModel$ClassifySortModel" ≠ "java/lang/invoke/MethodHandle" ∧ "KnowHouseModel$ClassifySortModel" ≠ "java/lang/invoke/VarHandle" ∧ (parseMethodDescriptor "(I)I").map (fun d => d.parameters.length) = some 1 := by decide +kernel
theorem hSRX52_fuel : "KnowHouseModel$ClassifySortModel" ≠ "java/lang/invoke/MethodHandle" ∧ "KnowHouseModel$ClassifySortModel" ≠ "java/lang/invoke/VarHandle" ∧ (parseMethodDescriptor "(I)I").map (fun d => d.parameters.length) = some 1 := by decide +kernel
theorem hSRX52_known : "KnowHouseModel$ClassifySortModel" ≠ "java/lang/invoke/MethodHandle" ∧ "KnowHouseModel$ClassifySortModel" ≠ "java/lang/invoke/VarHandle" ∧ (parseMethodDescriptor "(II)I").map (fun d => d.parameters.length) = some 2 := by decide +kernel
theorem hSRX52_ask : "KnowHouseModel$ClassifySortModel" ≠ "java/lang/invoke/MethodHandle" ∧ "KnowHouseModel$ClassifySortModel" ≠ "java/lang/invoke/VarHandle" ∧ (parseMethodDescriptor "(II)I").map (fun d => d.parameters.length) = some 2 := by decide +kernel
theorem hSRX52_child : "KnowHouseModel$ClassifySortModel" ≠ "java/lang/invoke/MethodHandle" ∧ "KnowHouseModel$ClassifySortModel" ≠ "java/lang/invoke/VarHandle" ∧ (parseMethodDescriptor "(II)I").map (fun d => d.parameters.length) = some 2 := by decide +kernel
theorem hSRX52_equal : "KnowHouseModel$ClassifySortModel" ≠ "java/lang/invoke/MethodHandle" ∧ "KnowHouseModel$ClassifySortModel" ≠ "java/lang/invoke/VarHandle" ∧ (parseMethodDescriptor "(II)I").map (fun d => d.parameters.length) = some 2 := by decide +kernel
theorem hSRX52_empty : "KnowHouseModel$ClassifySortModel" ≠ "java/lang/invoke/MethodHandle" ∧ "KnowHouseModel$ClassifySortModel" ≠ "java/lang/invoke/VarHandle" ∧ (parseMethodDescriptor "(I)I").map (fun d => d.parameters.length) = some 1 := by decide +kernel
theorem hSRX52_open : "KnowHouseModel$ClassifySortModel" ≠ "java/lang/invoke/MethodHandle" ∧ "KnowHouseModel$ClassifySortModel" ≠ "java/lang/invoke/VarHandle" ∧ (parseMethodDescriptor "(I)I").map (fun d => d.parameters.length) = some 1 := by decide +kernel
theorem hSRX52_type : "KnowHouseModel$ClassifySortModel" ≠ "java/lang/invoke/MethodHandle" ∧ "KnowHouseModel$ClassifySortModel" ≠ "java/lang/invoke/VarHandle" ∧ (parseMethodDescriptor "(II)I").map (fun d => d.parameters.length) = some 2 := by decide +kernel
theorem hSRX52_trace : "KnowHouseModel$ClassifySortModel" ≠ "java/lang/invoke/MethodHandle" ∧ "KnowHouseModel$ClassifySortModel" ≠ "java/lang/invoke/VarHandle" ∧ (parseMethodDescriptor "(III)I").map (fun d => d.parameters.length) = some 3 := by decide +kernel
theorem hSRX53_choose : "KnowHouseModel$FacetCountsModel" ≠ "java/lang/invoke/MethodHandle" ∧ "KnowHouseModel$FacetCountsModel" ≠ "java/lang/invoke/VarHandle" ∧ (parseMethodDescriptor "(IIZ)I").map (fun d => d.parameters.length) = some 3 := by decide +kernel
theorem hSRX53_isKept : "KnowHouseModel$FacetCountsModel" ≠ "java/lang/invoke/MethodHandle" ∧ "KnowHouseModel$FacetCountsModel" ≠ "java/lang/invoke/VarHandle" ∧ (parseMethodDescriptor "(I)I").map (fun d => d.parameters.length) = some 1 := by decide +kernel
theorem hSRX53_facet : "KnowHouseModel$FacetCountsModel" ≠ "java/lang/invoke/MethodHandle" ∧ "KnowHouseModel$FacetCountsModel" ≠ "java/lang/invoke/VarHandle" ∧ (parseMethodDescriptor "(II)I").map (fun d => d.parameters.length) = some 2 := by decide +kernel
theorem hSRX53_top : "KnowHouseModel$FacetCountsModel" ≠ "java/lang/invoke/MethodHandle" ∧ "KnowHouseModel$FacetCountsModel" ≠ "java/lang/invoke/VarHandle" ∧ (parseMethodDescriptor "(II)I").map (fun d => d.parameters.length) = some 2 := by decide +kernel
theorem hSRX53_range : "KnowHouseModel$FacetCountsModel" ≠ "java/lang/invoke/MethodHandle" ∧ "KnowHouseModel$FacetCountsModel" ≠ "java/lang/invoke/VarHandle" ∧ (parseMethodDescriptor "(III)I").map (fun d => d.parameters.length) = some 3 := by decide +kernel
theorem hSRX53_sum : "KnowHouseModel$FacetCountsModel" ≠ "java/lang/invoke/MethodHandle" ∧ "KnowHouseModel$FacetCountsModel" ≠ "java/lang/invoke/VarHandle" ∧ (parseMethodDescriptor "(III)I").map (fun d => d.parameters.length) = some 3 := by decide +kernel
theorem hSRX53_changed : "KnowHouseModel$FacetCountsModel" ≠ "java/lang/invoke/MethodHandle" ∧ "KnowHouseModel$FacetCountsModel" ≠ "java/lang/invoke/VarHandle" ∧ (parseMethodDescriptor "()I").map (fun d => d.parameters.length) = some 0 := by decide +kernel
theorem hSRX53_rows : "KnowHouseModel$FacetCountsModel" ≠ "java/lang/invoke/MethodHandle" ∧ "KnowHouseModel$FacetCountsModel" ≠ "java/lang/invoke/VarHandle" ∧ (parseMethodDescriptor "()I").map (fun d => d.parameters.length) = some 0 := by decide +kernel
theorem hSRX54_key : "KnowHouseModel$VirtualRewriteModel" ≠ "java/lang/invoke/MethodHandle" ∧ "KnowHouseModel$VirtualRewriteModel" ≠ "java/lang/invoke/VarHandle" ∧ (parseMethodDescriptor "(IIZ)I").map (fun d => d.parameters.length) = some 3 := by decide +kernel
theorem hSRX54_row : "KnowHouseModel$VirtualRewriteModel" ≠ "java/lang/invoke/MethodHandle" ∧ "KnowHouseModel$VirtualRewriteModel" ≠ "java/lang/invoke/VarHandle" ∧ (parseMethodDescriptor "(IIII)I").map (fun d => d.parameters.length) = some 4 := by decide +kernel
theorem hSRX54_drop : "KnowHouseModel$VirtualRewriteModel" ≠ "java/lang/invoke/MethodHandle" ∧ "KnowHouseModel$VirtualRewriteModel" ≠ "java/lang/invoke/VarHandle" ∧ (parseMethodDescriptor "(II)I").map (fun d => d.parameters.length) = some 2 := by decide +kernel
theorem hSRX54_mapping : "KnowHouseModel$VirtualRewriteModel" ≠ "java/lang/invoke/MethodHandle" ∧ "KnowHouseModel$VirtualRewriteModel" ≠ "java/lang/invoke/VarHandle" ∧ (parseMethodDescriptor "(IIIIII)I").map (fun d => d.parameters.length) = some 6 := by decide +kernel
theorem hSRX54_triples : "KnowHouseModel$VirtualRewriteModel" ≠ "java/lang/invoke/MethodHandle" ∧ "KnowHouseModel$VirtualRewriteModel" ≠ "java/lang/invoke/VarHandle" ∧ (parseMethodDescriptor "()I").map (fun d => d.parameters.length) = some 0 := by decide +kernel
theorem hSRX54_atom : "KnowHouseModel$VirtualRewriteModel" ≠ "java/lang/invoke/MethodHandle" ∧ "KnowHouseModel$VirtualRewriteModel" ≠ "java/lang/invoke/VarHandle" ∧ (parseMethodDescriptor "(III)I").map (fun d => d.parameters.length) = some 3 := by decide +kernel
theorem hSRX54_span : "KnowHouseModel$VirtualRewriteModel" ≠ "java/lang/invoke/MethodHandle" ∧ "KnowHouseModel$VirtualRewriteModel" ≠ "java/lang/invoke/VarHandle" ∧ (parseMethodDescriptor "(III)I").map (fun d => d.parameters.length) = some 3 := by decide +kernel
theorem hSRX54_clear : "KnowHouseModel$VirtualRewriteModel" ≠ "java/lang/invoke/MethodHandle" ∧ "KnowHouseModel$VirtualRewriteModel" ≠ "java/lang/invoke/VarHandle" ∧ (parseMethodDescriptor "()I").map (fun d => d.parameters.length) = some 0 := by decide +kernel
theorem hSRX54_unions : "KnowHouseModel$VirtualRewriteModel" ≠ "java/lang/invoke/MethodHandle" ∧ "KnowHouseModel$VirtualRewriteModel" ≠ "java/lang/invoke/VarHandle" ∧ (parseMethodDescriptor "()I").map (fun d => d.parameters.length) = some 0 := by decide +kernel
theorem hSRX54_union : "KnowHouseModel$VirtualRewriteModel" ≠ "java/lang/invoke/MethodHandle" ∧ "KnowHouseModel$VirtualRewriteModel" ≠ "java/lang/invoke/VarHandle" ∧ (parseMethodDescriptor "(II)I").map (fun d => d.parameters.length) = some 2 := by decide +kernel
theorem hSRX54_estimate : "KnowHouseModel$VirtualRewriteModel" ≠ "java/lang/invoke/MethodHandle" ∧ "KnowHouseModel$VirtualRewriteModel" ≠ "java/lang/invoke/VarHandle" ∧ (parseMethodDescriptor "(I)I").map (fun d => d.parameters.length) = some 1 := by decide +kernel
theorem hSRX54_found : "KnowHouseModel$VirtualRewriteModel" ≠ "java/lang/invoke/MethodHandle" ∧ "KnowHouseModel$VirtualRewriteModel" ≠ "java/lang/invoke/VarHandle" ∧ (parseMethodDescriptor "(II)I").map (fun d => d.parameters.length) = some 2 := by decide +kernel
theorem hSRX55_rule : "KnowHouseModel$RuleEngineModel" ≠ "java/lang/invoke/MethodHandle" ∧ "KnowHouseModel$RuleEngineModel" ≠ "java/lang/invoke/VarHandle" ∧ (parseMethodDescriptor "(III)I").map (fun d => d.parameters.length) = some 3 := by decide +kernel
theorem hSRX55_body : "KnowHouseModel$RuleEngineModel" ≠ "java/lang/invoke/MethodHandle" ∧ "KnowHouseModel$RuleEngineModel" ≠ "java/lang/invoke/VarHandle" ∧ (parseMethodDescriptor "(IIIIZ)I").map (fun d => d.parameters.length) = some 5 := by decide +kernel
theorem hSRX55_filter : "KnowHouseModel$RuleEngineModel" ≠ "java/lang/invoke/MethodHandle" ∧ "KnowHouseModel$RuleEngineModel" ≠ "java/lang/invoke/VarHandle" ∧ (parseMethodDescriptor "(IIII)I").map (fun d => d.parameters.length) = some 4 := by decide +kernel
theorem hSRX55_aggregate : "KnowHouseModel$RuleEngineModel" ≠ "java/lang/invoke/MethodHandle" ∧ "KnowHouseModel$RuleEngineModel" ≠ "java/lang/invoke/VarHandle" ∧ (parseMethodDescriptor "(III)I").map (fun d => d.parameters.length) = some 3 := by decide +kernel
theorem hSRX55_drop : "KnowHouseModel$RuleEngineModel" ≠ "java/lang/invoke/MethodHandle" ∧ "KnowHouseModel$RuleEngineModel" ≠ "java/lang/invoke/VarHandle" ∧ (parseMethodDescriptor "(I)I").map (fun d => d.parameters.length) = some 1 := by decide +kernel
theorem hSRX55_safe : "KnowHouseModel$RuleEngineModel" ≠ "java/lang/invoke/MethodHandle" ∧ "KnowHouseModel$RuleEngineModel" ≠ "java/lang/invoke/VarHandle" ∧ (parseMethodDescriptor "(I)I").map (fun d => d.parameters.length) = some 1 := by decide +kernel
theorem hSRX55_run : "KnowHouseModel$RuleEngineModel" ≠ "java/lang/invoke/MethodHandle" ∧ "KnowHouseModel$RuleEngineModel" ≠ "java/lang/invoke/VarHandle" ∧ (parseMethodDescriptor "()I").map (fun d => d.parameters.length) = some 0 := by decide +kernel
theorem hSRX55_stratum : "KnowHouseModel$RuleEngineModel" ≠ "java/lang/invoke/MethodHandle" ∧ "KnowHouseModel$RuleEngineModel" ≠ "java/lang/invoke/VarHandle" ∧ (parseMethodDescriptor "(I)I").map (fun d => d.parameters.length) = some 1 := by decide +kernel
theorem hSRX55_round : "KnowHouseModel$RuleEngineModel" ≠ "java/lang/invoke/MethodHandle" ∧ "KnowHouseModel$RuleEngineModel" ≠ "java/lang/invoke/VarHandle" ∧ (parseMethodDescriptor "(III)I").map (fun d => d.parameters.length) = some 3 := by decide +kernel
theorem hSRX55_counts : "KnowHouseModel$RuleEngineModel" ≠ "java/lang/invoke/MethodHandle" ∧ "KnowHouseModel$RuleEngineModel" ≠ "java/lang/invoke/VarHandle" ∧ (parseMethodDescriptor "(III)I").map (fun d => d.parameters.length) = some 3 := by decide +kernel
theorem hSRX55_row : "KnowHouseModel$RuleEngineModel" ≠ "java/lang/invoke/MethodHandle" ∧ "KnowHouseModel$RuleEngineModel" ≠ "java/lang/invoke/VarHandle" ∧ (parseMethodDescriptor "(I)I").map (fun d => d.parameters.length) = some 1 := by decide +kernel
theorem hSRX55_size : "KnowHouseModel$RuleEngineModel" ≠ "java/lang/invoke/MethodHandle" ∧ "KnowHouseModel$RuleEngineModel" ≠ "java/lang/invoke/VarHandle" ∧ (parseMethodDescriptor "()I").map (fun d => d.parameters.length) = some 0 := by decide +kernel
theorem hSRX56_forget : "KnowHouseModel$QlRewriteModel" ≠ "java/lang/invoke/MethodHandle" ∧ "KnowHouseModel$QlRewriteModel" ≠ "java/lang/invoke/VarHandle" ∧ (parseMethodDescriptor "(ZIII)I").map (fun d => d.parameters.length) = some 4 := by decide +kernel
theorem hSRX56_question : "KnowHouseModel$QlRewriteModel" ≠ "java/lang/invoke/MethodHandle" ∧ "KnowHouseModel$QlRewriteModel" ≠ "java/lang/invoke/VarHandle" ∧ (parseMethodDescriptor "(I)I").map (fun d => d.parameters.length) = some 1 := by decide +kernel
theorem hSRX56_atom : "KnowHouseModel$QlRewriteModel" ≠ "java/lang/invoke/MethodHandle" ∧ "KnowHouseModel$QlRewriteModel" ≠ "java/lang/invoke/VarHandle" ∧ (parseMethodDescriptor "(IZIII)I").map (fun d => d.parameters.length) = some 5 := by decide +kernel
theorem hSRX56_forms : "KnowHouseModel$QlRewriteModel" ≠ "java/lang/invoke/MethodHandle" ∧ "KnowHouseModel$QlRewriteModel" ≠ "java/lang/invoke/VarHandle" ∧ (parseMethodDescriptor "(I)I").map (fun d => d.parameters.length) = some 1 := by decide +kernel
theorem hSRX56_form : "KnowHouseModel$QlRewriteModel" ≠ "java/lang/invoke/MethodHandle" ∧ "KnowHouseModel$QlRewriteModel" ≠ "java/lang/invoke/VarHandle" ∧ (parseMethodDescriptor "(III)I").map (fun d => d.parameters.length) = some 3 := by decide +kernel
theorem hSRX56_run : "KnowHouseModel$QlRewriteModel" ≠ "java/lang/invoke/MethodHandle" ∧ "KnowHouseModel$QlRewriteModel" ≠ "java/lang/invoke/VarHandle" ∧ (parseMethodDescriptor "(I)I").map (fun d => d.parameters.length) = some 1 := by decide +kernel
theorem hSRX56_answer : "KnowHouseModel$QlRewriteModel" ≠ "java/lang/invoke/MethodHandle" ∧ "KnowHouseModel$QlRewriteModel" ≠ "java/lang/invoke/VarHandle" ∧ (parseMethodDescriptor "(II)I").map (fun d => d.parameters.length) = some 2 := by decide +kernel
theorem hSRX56_why : "KnowHouseModel$QlRewriteModel" ≠ "java/lang/invoke/MethodHandle" ∧ "KnowHouseModel$QlRewriteModel" ≠ "java/lang/invoke/VarHandle" ∧ (parseMethodDescriptor "(II)I").map (fun d => d.parameters.length) = some 2 := by decide +kernel
theorem hSRX56_broken : "KnowHouseModel$QlRewriteModel" ≠ "java/lang/invoke/MethodHandle" ∧ "KnowHouseModel$QlRewriteModel" ≠ "java/lang/invoke/VarHandle" ∧ (parseMethodDescriptor "()I").map (fun d => d.parameters.length) = some 0 := by decide +kernel
theorem hSRX56_count : "KnowHouseModel$QlRewriteModel" ≠ "java/lang/invoke/MethodHandle" ∧ "KnowHouseModel$QlRewriteModel" ≠ "java/lang/invoke/VarHandle" ∧ (parseMethodDescriptor "(I)I").map (fun d => d.parameters.length) = some 1 := by decide +kernel
theorem hSRX56_clear : "KnowHouseModel$QlRewriteModel" ≠ "java/lang/invoke/MethodHandle" ∧ "KnowHouseModel$QlRewriteModel" ≠ "java/lang/invoke/VarHandle" ∧ (parseMethodDescriptor "()I").map (fun d => d.parameters.length) = some 0 := by decide +kernel
theorem hSRX57_cut : "KnowHouseModel$KnowDiskModel" ≠ "java/lang/invoke/MethodHandle" ∧ "KnowHouseModel$KnowDiskModel" ≠ "java/lang/invoke/VarHandle" ∧ (parseMethodDescriptor "(II)V").map (fun d => d.parameters.length) = some 2 := by decide +kernel
theorem hSRX57_start : "KnowHouseModel$KnowDiskModel" ≠ "java/lang/invoke/MethodHandle" ∧ "KnowHouseModel$KnowDiskModel" ≠ "java/lang/invoke/VarHandle" ∧ (parseMethodDescriptor "()I").map (fun d => d.parameters.length) = some 0 := by decide +kernel
theorem hSRX57_poke : "KnowHouseModel$KnowDiskModel" ≠ "java/lang/invoke/MethodHandle" ∧ "KnowHouseModel$KnowDiskModel" ≠ "java/lang/invoke/VarHandle" ∧ (parseMethodDescriptor "(III)I").map (fun d => d.parameters.length) = some 3 := by decide +kernel
theorem hSRX57_wrong : "KnowHouseModel$KnowDiskModel" ≠ "java/lang/invoke/MethodHandle" ∧ "KnowHouseModel$KnowDiskModel" ≠ "java/lang/invoke/VarHandle" ∧ (parseMethodDescriptor "(I)I").map (fun d => d.parameters.length) = some 1 := by decide +kernel
theorem hSRX57_backup : "KnowHouseModel$KnowDiskModel" ≠ "java/lang/invoke/MethodHandle" ∧ "KnowHouseModel$KnowDiskModel" ≠ "java/lang/invoke/VarHandle" ∧ (parseMethodDescriptor "(I)I").map (fun d => d.parameters.length) = some 1 := by decide +kernel
theorem hSRX57_drop : "KnowHouseModel$KnowDiskModel" ≠ "java/lang/invoke/MethodHandle" ∧ "KnowHouseModel$KnowDiskModel" ≠ "java/lang/invoke/VarHandle" ∧ (parseMethodDescriptor "(I)I").map (fun d => d.parameters.length) = some 1 := by decide +kernel
theorem hSRX57_derived : "KnowHouseModel$KnowDiskModel" ≠ "java/lang/invoke/MethodHandle" ∧ "KnowHouseModel$KnowDiskModel" ≠ "java/lang/invoke/VarHandle" ∧ (parseMethodDescriptor "(I)I").map (fun d => d.parameters.length) = some 1 := by decide +kernel
theorem hSRX57_full : "KnowHouseModel$KnowDiskModel" ≠ "java/lang/invoke/MethodHandle" ∧ "KnowHouseModel$KnowDiskModel" ≠ "java/lang/invoke/VarHandle" ∧ (parseMethodDescriptor "(Z)Z").map (fun d => d.parameters.length) = some 1 := by decide +kernel
theorem hSRX46_init : yX46_init.cls ≠ "java/lang/invoke/MethodHandle" ∧ yX46_init.cls ≠ "java/lang/invoke/VarHandle" ∧ (parseMethodDescriptor yX46_init.desc).map (fun d => d.parameters.length) = some 1 := by decide +kernel
theorem hSRJ16_coder : yJ16_coder.cls ≠ "java/lang/invoke/MethodHandle" ∧ yJ16_coder.cls ≠ "java/lang/invoke/VarHandle" ∧ (parseMethodDescriptor yJ16_coder.desc).map (fun d => d.parameters.length) = some 0 := by decide +kernel
theorem hSRJ17_canEncode : yJ17_canEncode.cls ≠ "java/lang/invoke/MethodHandle" ∧ yJ17_canEncode.cls ≠ "java/lang/invoke/VarHandle" ∧ (parseMethodDescriptor yJ17_canEncode.desc).map (fun d => d.parameters.length) = some 1 := by decide +kernel
theorem hSRJ17_indexOfChar : yJ17_indexOfChar.cls ≠ "java/lang/invoke/MethodHandle" ∧ yJ17_indexOfChar.cls ≠ "java/lang/invoke/VarHandle" ∧ (parseMethodDescriptor yJ17_indexOfChar.desc).map (fun d => d.parameters.length) = some 4 := by decide +kernel
theorem hSRJ16_isLatin1 : yJ16_isLatin1.cls ≠ "java/lang/invoke/MethodHandle" ∧ yJ16_isLatin1.cls ≠ "java/lang/invoke/VarHandle" ∧ (parseMethodDescriptor yJ16_isLatin1.desc).map (fun d => d.parameters.length) = some 0 := by decide +kernel
theorem hSRJ16_length : yJ16_length.cls ≠ "java/lang/invoke/MethodHandle" ∧ yJ16_length.cls ≠ "java/lang/invoke/VarHandle" ∧ (parseMethodDescriptor yJ16_length.desc).map (fun d => d.parameters.length) = some 0 := by decide +kernel
theorem hSRJ17_indexOf : yJ17_indexOf.cls ≠ "java/lang/invoke/MethodHandle" ∧ yJ17_indexOf.cls ≠ "java/lang/invoke/VarHandle" ∧ (parseMethodDescriptor yJ17_indexOf.desc).map (fun d => d.parameters.length) = some 4 := by decide +kernel
theorem hSRJ16_indexOf_2 : yJ16_indexOf_2.cls ≠ "java/lang/invoke/MethodHandle" ∧ yJ16_indexOf_2.cls ≠ "java/lang/invoke/VarHandle" ∧ (parseMethodDescriptor yJ16_indexOf_2.desc).map (fun d => d.parameters.length) = some 2 := by decide +kernel
theorem hSRJ15_checkIndex : yJ15_checkIndex.cls ≠ "java/lang/invoke/MethodHandle" ∧ yJ15_checkIndex.cls ≠ "java/lang/invoke/VarHandle" ∧ (parseMethodDescriptor yJ15_checkIndex.desc).map (fun d => d.parameters.length) = some 3 := by decide +kernel
theorem hSRJ16_checkIndex : yJ16_checkIndex.cls ≠ "java/lang/invoke/MethodHandle" ∧ yJ16_checkIndex.cls ≠ "java/lang/invoke/VarHandle" ∧ (parseMethodDescriptor yJ16_checkIndex.desc).map (fun d => d.parameters.length) = some 2 := by decide +kernel
theorem hSRJ17_charAt : yJ17_charAt.cls ≠ "java/lang/invoke/MethodHandle" ∧ yJ17_charAt.cls ≠ "java/lang/invoke/VarHandle" ∧ (parseMethodDescriptor yJ17_charAt.desc).map (fun d => d.parameters.length) = some 2 := by decide +kernel
theorem hSRJ16_indexOf : yJ16_indexOf.cls ≠ "java/lang/invoke/MethodHandle" ∧ yJ16_indexOf.cls ≠ "java/lang/invoke/VarHandle" ∧ (parseMethodDescriptor yJ16_indexOf.desc).map (fun d => d.parameters.length) = some 1 := by decide +kernel
theorem hSRJ16_charAt : yJ16_charAt.cls ≠ "java/lang/invoke/MethodHandle" ∧ yJ16_charAt.cls ≠ "java/lang/invoke/VarHandle" ∧ (parseMethodDescriptor yJ16_charAt.desc).map (fun d => d.parameters.length) = some 1 := by decide +kernel
theorem hSRX45_isWord : yX45_isWord.cls ≠ "java/lang/invoke/MethodHandle" ∧ yX45_isWord.cls ≠ "java/lang/invoke/VarHandle" ∧ (parseMethodDescriptor yX45_isWord.desc).map (fun d => d.parameters.length) = some 2 := by decide +kernel
theorem hSRJ15_checkFromToIndex : yJ15_checkFromToIndex.cls ≠ "java/lang/invoke/MethodHandle" ∧ yJ15_checkFromToIndex.cls ≠ "java/lang/invoke/VarHandle" ∧ (parseMethodDescriptor yJ15_checkFromToIndex.desc).map (fun d => d.parameters.length) = some 4 := by decide +kernel
theorem hSRX45_thing : yX45_thing.cls ≠ "java/lang/invoke/MethodHandle" ∧ yX45_thing.cls ≠ "java/lang/invoke/VarHandle" ∧ (parseMethodDescriptor yX45_thing.desc).map (fun d => d.parameters.length) = some 1 := by decide +kernel
theorem hSRX45_head : yX45_head.cls ≠ "java/lang/invoke/MethodHandle" ∧ yX45_head.cls ≠ "java/lang/invoke/VarHandle" ∧ (parseMethodDescriptor yX45_head.desc).map (fun d => d.parameters.length) = some 1 := by decide +kernel
theorem hSRX45_value : yX45_value.cls ≠ "java/lang/invoke/MethodHandle" ∧ yX45_value.cls ≠ "java/lang/invoke/VarHandle" ∧ (parseMethodDescriptor yX45_value.desc).map (fun d => d.parameters.length) = some 1 := by decide +kernel
theorem hSRX45_lay : yX45_lay.cls ≠ "java/lang/invoke/MethodHandle" ∧ yX45_lay.cls ≠ "java/lang/invoke/VarHandle" ∧ (parseMethodDescriptor yX45_lay.desc).map (fun d => d.parameters.length) = some 2 := by decide +kernel
theorem hSRX45_enter : yX45_enter.cls ≠ "java/lang/invoke/MethodHandle" ∧ yX45_enter.cls ≠ "java/lang/invoke/VarHandle" ∧ (parseMethodDescriptor yX45_enter.desc).map (fun d => d.parameters.length) = some 3 := by decide +kernel
theorem hSRX45_isThere : yX45_isThere.cls ≠ "java/lang/invoke/MethodHandle" ∧ yX45_isThere.cls ≠ "java/lang/invoke/VarHandle" ∧ (parseMethodDescriptor yX45_isThere.desc).map (fun d => d.parameters.length) = some 1 := by decide +kernel
theorem hSRX45_say : yX45_say.cls ≠ "java/lang/invoke/MethodHandle" ∧ yX45_say.cls ≠ "java/lang/invoke/VarHandle" ∧ (parseMethodDescriptor yX45_say.desc).map (fun d => d.parameters.length) = some 3 := by decide +kernel
theorem hSRX45_level : yX45_level.cls ≠ "java/lang/invoke/MethodHandle" ∧ yX45_level.cls ≠ "java/lang/invoke/VarHandle" ∧ (parseMethodDescriptor yX45_level.desc).map (fun d => d.parameters.length) = some 0 := by decide +kernel
theorem hSRX45_publish : yX45_publish.cls ≠ "java/lang/invoke/MethodHandle" ∧ yX45_publish.cls ≠ "java/lang/invoke/VarHandle" ∧ (parseMethodDescriptor yX45_publish.desc).map (fun d => d.parameters.length) = some 0 := by decide +kernel
theorem hSRX45_under : yX45_under.cls ≠ "java/lang/invoke/MethodHandle" ∧ yX45_under.cls ≠ "java/lang/invoke/VarHandle" ∧ (parseMethodDescriptor yX45_under.desc).map (fun d => d.parameters.length) = some 2 := by decide +kernel
theorem hSRX45_is : yX45_is.cls ≠ "java/lang/invoke/MethodHandle" ∧ yX45_is.cls ≠ "java/lang/invoke/VarHandle" ∧ (parseMethodDescriptor yX45_is.desc).map (fun d => d.parameters.length) = some 2 := by decide +kernel
theorem hSRX45_order : yX45_order.cls ≠ "java/lang/invoke/MethodHandle" ∧ yX45_order.cls ≠ "java/lang/invoke/VarHandle" ∧ (parseMethodDescriptor yX45_order.desc).map (fun d => d.parameters.length) = some 0 := by decide +kernel
theorem hSRX45_take : yX45_take.cls ≠ "java/lang/invoke/MethodHandle" ∧ yX45_take.cls ≠ "java/lang/invoke/VarHandle" ∧ (parseMethodDescriptor yX45_take.desc).map (fun d => d.parameters.length) = some 3 := by decide +kernel
theorem hSRX45_store : yX45_store.cls ≠ "java/lang/invoke/MethodHandle" ∧ yX45_store.cls ≠ "java/lang/invoke/VarHandle" ∧ (parseMethodDescriptor yX45_store.desc).map (fun d => d.parameters.length) = some 1 := by decide +kernel
theorem hSRX45_audit : yX45_audit.cls ≠ "java/lang/invoke/MethodHandle" ∧ yX45_audit.cls ≠ "java/lang/invoke/VarHandle" ∧ (parseMethodDescriptor yX45_audit.desc).map (fun d => d.parameters.length) = some 0 := by decide +kernel
theorem hSRX45_entry : yX45_entry.cls ≠ "java/lang/invoke/MethodHandle" ∧ yX45_entry.cls ≠ "java/lang/invoke/VarHandle" ∧ (parseMethodDescriptor yX45_entry.desc).map (fun d => d.parameters.length) = some 2 := by decide +kernel
theorem hSRX45_houseCall : yX45_houseCall.cls ≠ "java/lang/invoke/MethodHandle" ∧ yX45_houseCall.cls ≠ "java/lang/invoke/VarHandle" ∧ (parseMethodDescriptor yX45_houseCall.desc).map (fun d => d.parameters.length) = some 1 := by decide +kernel
theorem hSRX45_namesCall : yX45_namesCall.cls ≠ "java/lang/invoke/MethodHandle" ∧ yX45_namesCall.cls ≠ "java/lang/invoke/VarHandle" ∧ (parseMethodDescriptor yX45_namesCall.desc).map (fun d => d.parameters.length) = some 1 := by decide +kernel
theorem hSRX45_versionsCall : yX45_versionsCall.cls ≠ "java/lang/invoke/MethodHandle" ∧ yX45_versionsCall.cls ≠ "java/lang/invoke/VarHandle" ∧ (parseMethodDescriptor yX45_versionsCall.desc).map (fun d => d.parameters.length) = some 1 := by decide +kernel
theorem hSRX45_valuesCall : yX45_valuesCall.cls ≠ "java/lang/invoke/MethodHandle" ∧ yX45_valuesCall.cls ≠ "java/lang/invoke/VarHandle" ∧ (parseMethodDescriptor yX45_valuesCall.desc).map (fun d => d.parameters.length) = some 1 := by decide +kernel
theorem hSRX45_proofsCall : yX45_proofsCall.cls ≠ "java/lang/invoke/MethodHandle" ∧ yX45_proofsCall.cls ≠ "java/lang/invoke/VarHandle" ∧ (parseMethodDescriptor yX45_proofsCall.desc).map (fun d => d.parameters.length) = some 1 := by decide +kernel
theorem hSRX45_rightsCall : yX45_rightsCall.cls ≠ "java/lang/invoke/MethodHandle" ∧ yX45_rightsCall.cls ≠ "java/lang/invoke/VarHandle" ∧ (parseMethodDescriptor yX45_rightsCall.desc).map (fun d => d.parameters.length) = some 1 := by decide +kernel
theorem hSRX45_classesCall : yX45_classesCall.cls ≠ "java/lang/invoke/MethodHandle" ∧ yX45_classesCall.cls ≠ "java/lang/invoke/VarHandle" ∧ (parseMethodDescriptor yX45_classesCall.desc).map (fun d => d.parameters.length) = some 1 := by decide +kernel
theorem hSRX45_facetsCall : yX45_facetsCall.cls ≠ "java/lang/invoke/MethodHandle" ∧ yX45_facetsCall.cls ≠ "java/lang/invoke/VarHandle" ∧ (parseMethodDescriptor yX45_facetsCall.desc).map (fun d => d.parameters.length) = some 1 := by decide +kernel
theorem hSRX45_tablesCall : yX45_tablesCall.cls ≠ "java/lang/invoke/MethodHandle" ∧ yX45_tablesCall.cls ≠ "java/lang/invoke/VarHandle" ∧ (parseMethodDescriptor yX45_tablesCall.desc).map (fun d => d.parameters.length) = some 1 := by decide +kernel
theorem hSRX45_rulesCall : yX45_rulesCall.cls ≠ "java/lang/invoke/MethodHandle" ∧ yX45_rulesCall.cls ≠ "java/lang/invoke/VarHandle" ∧ (parseMethodDescriptor yX45_rulesCall.desc).map (fun d => d.parameters.length) = some 1 := by decide +kernel
theorem hSRX45_rewriteCall : yX45_rewriteCall.cls ≠ "java/lang/invoke/MethodHandle" ∧ yX45_rewriteCall.cls ≠ "java/lang/invoke/VarHandle" ∧ (parseMethodDescriptor yX45_rewriteCall.desc).map (fun d => d.parameters.length) = some 1 := by decide +kernel
theorem hSRX45_diskCall : yX45_diskCall.cls ≠ "java/lang/invoke/MethodHandle" ∧ yX45_diskCall.cls ≠ "java/lang/invoke/VarHandle" ∧ (parseMethodDescriptor yX45_diskCall.desc).map (fun d => d.parameters.length) = some 1 := by decide +kernel
def kESR (G : kGt) (sa : Nat → Nat) (so : kSo) : Prop := ∀ (A : Nat → Prop) (s : State) (H : Heap), G A s H → vk_R "KnowHouseModel" 11 "house" (sa 305) s ∧ kSf so A s H ∧ vk_R "KnowHouseModel" 13 "names" (sa 306) s ∧ vk_R "KnowHouseModel" 15 "versions" (sa 307) s ∧ vk_R "KnowHouseModel" 17 "values" (sa 308) s ∧ vk_R "KnowHouseModel" 19 "proofs" (sa 309) s ∧ vk_R "KnowHouseModel" 21 "rights" (sa 310) s ∧ vk_R "KnowHouseModel" 23 "classes" (sa 311) s ∧ vk_R "KnowHouseModel" 25 "facets" (sa 312) s ∧ vk_R "KnowHouseModel" 27 "tables" (sa 313) s ∧ vk_R "KnowHouseModel" 29 "rules" (sa 314) s ∧ vk_R "KnowHouseModel" 31 "rewrite" (sa 315) s ∧ vk_R "KnowHouseModel" 33 "disk" (sa 316) s ∧ vk_R "KnowHouseModel" 43 "say iib" (sa 317) s ∧ vk_R "KnowHouseModel" 45 "level " (sa 318) s ∧ vk_R "KnowHouseModel" 47 "publish " (sa 319) s ∧ vk_R "KnowHouseModel" 49 "under ii" (sa 320) s ∧ vk_R "KnowHouseModel" 51 "is ii" (sa 321) s ∧ vk_R "KnowHouseModel" 53 "order " (sa 322) s ∧ vk_R "KnowHouseModel" 55 "take iii" (sa 323) s ∧ vk_R "KnowHouseModel" 57 "store i" (sa 324) s ∧ vk_R "KnowHouseModel" 59 "audit " (sa 325) s ∧ vk_R "KnowHouseModel" 61 "entry ii" (sa 326) s ∧ vk_R "KnowHouseModel" 66 "blank " (sa 327) s ∧ vk_R "KnowHouseModel" 68 "triple iii" (sa 328) s ∧ vk_R "KnowHouseModel" 70 "drop iii" (sa 329) s ∧ vk_R "KnowHouseModel" 72 "name l" (sa 330) s ∧ vk_R "KnowHouseModel" 74 "named i" (sa 331) s ∧ vk_R "KnowHouseModel" 76 "form ii" (sa 332) s ∧ vk_R "KnowHouseModel" 78 "hash ii" (sa 333) s ∧ vk_R "KnowHouseModel" 80 "rounds " (sa 334) s ∧ vk_R "KnowHouseModel" 82 "first ii" (sa 335) s ∧ vk_R "KnowHouseModel" 84 "keep " (sa 336) s ∧ vk_R "KnowHouseModel" 86 "isomorphic i" (sa 337) s ∧ vk_R "KnowHouseModel" 88 "ways i" (sa 338) s ∧ vk_R "KnowHouseModel" 90 "equal i" (sa 339) s ∧ vk_R "KnowHouseModel" 92 "triples " (sa 340) s ∧ vk_R "KnowHouseModel" 94 "blanks " (sa 341) s ∧ vk_R "KnowHouseModel" 96 "begin " (sa 342) s ∧ vk_R "KnowHouseModel" 98 "look i" (sa 343) s ∧ vk_R "KnowHouseModel" 100 "put iib" (sa 344) s ∧ vk_R "KnowHouseModel" 102 "note ii" (sa 345) s ∧ vk_R "KnowHouseModel" 104 "read ii" (sa 346) s ∧ vk_R "KnowHouseModel" 106 "told ii" (sa 347) s ∧ vk_R "KnowHouseModel" 108 "commit i" (sa 348) s ∧ vk_R "KnowHouseModel" 110 "abort i" (sa 349) s ∧ vk_R "KnowHouseModel" 112 "pin i" (sa 350) s ∧ vk_R "KnowHouseModel" 114 "unpin i" (sa 351) s ∧ vk_R "KnowHouseModel" 116 "free " (sa 352) s ∧ vk_R "KnowHouseModel" 118 "rows " (sa 353) s ∧ vk_R "KnowHouseModel" 120 "latest " (sa 354) s ∧ vk_R "KnowHouseModel" 122 "least " (sa 355) s ∧ vk_R "KnowHouseModel" 124 "state i" (sa 356) s ∧ vk_R "KnowHouseModel" 126 "waits i" (sa 357) s ∧ vk_R "KnowHouseModel" 128 "ring i" (sa 358) s ∧ vk_R "KnowHouseModel" 130 "conflicts ii" (sa 359) s ∧ vk_R "KnowHouseModel" 132 "type li" (sa 360) s ∧ vk_R "KnowHouseModel" 134 "read i" (sa 361) s ∧ vk_R "KnowHouseModel" 136 "values " (sa 362) s ∧ vk_R "KnowHouseModel" 138 "kind i" (sa 363) s ∧ vk_R "KnowHouseModel" 140 "compare ii" (sa 364) s ∧ vk_R "KnowHouseModel" 142 "part ii" (sa 365) s ∧ vk_R "KnowHouseModel" 144 "byteOf ii" (sa 366) s ∧ vk_R "KnowHouseModel" 146 "tell i" (sa 367) s ∧ vk_R "KnowHouseModel" 148 "told i" (sa 368) s ∧ vk_R "KnowHouseModel" 150 "apply iii" (sa 369) s ∧ vk_R "KnowHouseModel" 152 "axiom iii" (sa 370) s ∧ vk_R "KnowHouseModel" 154 "row iii" (sa 371) s ∧ vk_R "KnowHouseModel" 156 "premise ii" (sa 372) s ∧ vk_R "KnowHouseModel" 158 "check i" (sa 373) s ∧ vk_R "KnowHouseModel" 160 "broken " (sa 374) s ∧ vk_R "KnowHouseModel" 162 "rows i" (sa 375) s ∧ vk_R "KnowHouseModel" 164 "size i" (sa 376) s ∧ vk_R "KnowHouseModel" 166 "drop i" (sa 377) s ∧ vk_R "KnowHouseModel" 168 "name i" (sa 378) s ∧ vk_R "KnowHouseModel" 170 "states ii" (sa 379) s ∧ vk_R "KnowHouseModel" 172 "sentence i" (sa 380) s ∧ vk_R "KnowHouseModel" 174 "at i" (sa 381) s ∧ vk_R "KnowHouseModel" 176 "concludes ii" (sa 382) s ∧ vk_R "KnowHouseModel" 178 "member iib" (sa 383) s ∧ vk_R "KnowHouseModel" 180 "condition iiii" (sa 384) s ∧ vk_R "KnowHouseModel" 182 "rule ibi" (sa 385) s ∧ vk_R "KnowHouseModel" 184 "may iiiiii" (sa 386) s ∧ vk_R "KnowHouseModel" 186 "asks i" (sa 387) s ∧ vk_R "KnowHouseModel" 188 "ask ii" (sa 388) s ∧ vk_R "KnowHouseModel" 190 "within ii" (sa 389) s ∧ vk_R "KnowHouseModel" 192 "decides i" (sa 390) s ∧ vk_R "KnowHouseModel" 194 "sees ii" (sa 391) s ∧ vk_R "KnowHouseModel" 196 "matters i" (sa 392) s ∧ vk_R "KnowHouseModel" 198 "idle bi" (sa 393) s ∧ vk_R "KnowHouseModel" 200 "apart ii" (sa 394) s ∧ vk_R "KnowHouseModel" 202 "allowed " (sa 395) s ∧ vk_R "KnowHouseModel" 204 "conditions " (sa 396) s ∧ vk_R "KnowHouseModel" 206 "rules " (sa 397) s ∧ vk_R "KnowHouseModel" 208 "class0 " (sa 398) s ∧ vk_R "KnowHouseModel" 210 "thing " (sa 399) s ∧ vk_R "KnowHouseModel" 212 "remove i" (sa 400) s ∧ vk_R "KnowHouseModel" 214 "fuel i" (sa 401) s ∧ vk_R "KnowHouseModel" 216 "known ii" (sa 402) s ∧ vk_R "KnowHouseModel" 218 "run " (sa 403) s ∧ vk_R "KnowHouseModel" 220 "parent ii" (sa 404) s ∧ vk_R "KnowHouseModel" 222 "child ii" (sa 405) s ∧ vk_R "KnowHouseModel" 224 "equal ii" (sa 406) s ∧ vk_R "KnowHouseModel" 226 "empty i" (sa 407) s ∧ vk_R "KnowHouseModel" 228 "open i" (sa 408) s ∧ vk_R "KnowHouseModel" 230 "put ii" (sa 409) s ∧ vk_R "KnowHouseModel" 232 "type ii" (sa 410) s ∧ vk_R "KnowHouseModel" 234 "trace iii" (sa 411) s ∧ vk_R "KnowHouseModel" 236 "count i" (sa 412) s ∧ vk_R "KnowHouseModel" 238 "above ii" (sa 413) s ∧ vk_R "KnowHouseModel" 240 "choose iib" (sa 414) s ∧ vk_R "KnowHouseModel" 242 "kept " (sa 415) s ∧ vk_R "KnowHouseModel" 244 "isKept i" (sa 416) s ∧ vk_R "KnowHouseModel" 246 "facet ii" (sa 417) s ∧ vk_R "KnowHouseModel" 248 "top ii" (sa 418) s ∧ vk_R "KnowHouseModel" 250 "range iii" (sa 419) s ∧ vk_R "KnowHouseModel" 252 "sum iii" (sa 420) s ∧ vk_R "KnowHouseModel" 254 "changed " (sa 421) s ∧ vk_R "KnowHouseModel" 256 "key iib" (sa 422) s ∧ vk_R "KnowHouseModel" 258 "row iiii" (sa 423) s ∧ vk_R "KnowHouseModel" 260 "drop ii" (sa 424) s ∧ vk_R "KnowHouseModel" 262 "mapping iiiiii" (sa 425) s ∧ vk_R "KnowHouseModel" 264 "atom iii" (sa 426) s ∧ vk_R "KnowHouseModel" 266 "span iii" (sa 427) s ∧ vk_R "KnowHouseModel" 268 "clear " (sa 428) s ∧ vk_R "KnowHouseModel" 270 "unions " (sa 429) s ∧ vk_R "KnowHouseModel" 272 "union ii" (sa 430) s ∧ vk_R "KnowHouseModel" 274 "estimate i" (sa 431) s ∧ vk_R "KnowHouseModel" 276 "value ii" (sa 432) s ∧ vk_R "KnowHouseModel" 278 "found ii" (sa 433) s ∧ vk_R "KnowHouseModel" 280 "fact iii" (sa 434) s ∧ vk_R "KnowHouseModel" 282 "remove iii" (sa 435) s ∧ vk_R "KnowHouseModel" 284 "rule iii" (sa 436) s ∧ vk_R "KnowHouseModel" 286 "body iiiib" (sa 437) s ∧ vk_R "KnowHouseModel" 288 "filter iiii" (sa 438) s ∧ vk_R "KnowHouseModel" 290 "aggregate iii" (sa 439) s ∧ vk_R "KnowHouseModel" 292 "safe i" (sa 440) s ∧ vk_R "KnowHouseModel" 294 "stratum i" (sa 441) s ∧ vk_R "KnowHouseModel" 296 "holds iii" (sa 442) s ∧ vk_R "KnowHouseModel" 298 "round iii" (sa 443) s ∧ vk_R "KnowHouseModel" 300 "counts iii" (sa 444) s ∧ vk_R "KnowHouseModel" 302 "row i" (sa 445) s ∧ vk_R "KnowHouseModel" 304 "size " (sa 446) s ∧ vk_R "KnowHouseModel" 306 "fact biii" (sa 447) s ∧ vk_R "KnowHouseModel" 308 "forget biii" (sa 448) s ∧ vk_R "KnowHouseModel" 310 "question i" (sa 449) s ∧ vk_R "KnowHouseModel" 312 "atom ibiii" (sa 450) s ∧ vk_R "KnowHouseModel" 314 "forms i" (sa 451) s ∧ vk_R "KnowHouseModel" 316 "form iii" (sa 452) s ∧ vk_R "KnowHouseModel" 318 "run i" (sa 453) s ∧ vk_R "KnowHouseModel" 320 "answer ii" (sa 454) s ∧ vk_R "KnowHouseModel" 322 "why ii" (sa 455) s ∧ vk_R "KnowHouseModel" 324 "page iil" (sa 456) s ∧ vk_R "KnowHouseModel" 326 "sync " (sa 457) s ∧ vk_R "KnowHouseModel" 328 "cut ii" (sa 458) s ∧ vk_R "KnowHouseModel" 330 "start " (sa 459) s ∧ vk_R "KnowHouseModel" 332 "poke iii" (sa 460) s ∧ vk_R "KnowHouseModel" 334 "wrong i" (sa 461) s ∧ vk_R "KnowHouseModel" 336 "backup i" (sa 462) s ∧ vk_R "KnowHouseModel" 338 "derived i" (sa 463) s ∧ vk_R "KnowHouseModel" 340 "full b" (sa 464) s ∧ va_Z "java/lang/String" "COMPACT_STRINGS" "Z" (.int 1) A s H ∧ va_Z "jdk/internal/util/Preconditions" "SIOOBE_FORMATTER" "Ljava/util/function/BiFunction;" (.ref (sa 11)) A s H ∧ vk_R "java/lang/StringLatin1" 151 "" (sa 465) s ∧ True
theorem kESR_0 {G : kGt} {sa : Nat → Nat} {so : kSo} (h : kESR G sa so) {A : Nat → Prop} {s : State} {H : Heap} (g : G A s H) : vk_R "KnowHouseModel" 11 "house" (sa 305) s := (h A s H g).1
theorem kESR_1 {G : kGt} {sa : Nat → Nat} {so : kSo} (h : kESR G sa so) {A : Nat → Prop} {s : State} {H : Heap} (g : G A s H) : kSf so A s H := (h A s H g).2.1
theorem kESR_2 {G : kGt} {sa : Nat → Nat} {so : kSo} (h : kESR G sa so) {A : Nat → Prop} {s : State} {H : Heap} (g : G A s H) : vk_R "KnowHouseModel" 13 "names" (sa 306) s := (h A s H g).2.2.1
theorem kESR_3 {G : kGt} {sa : Nat → Nat} {so : kSo} (h : kESR G sa so) {A : Nat → Prop} {s : State} {H : Heap} (g : G A s H) : vk_R "KnowHouseModel" 15 "versions" (sa 307) s := (h A s H g).2.2.2.1
theorem kESR_4 {G : kGt} {sa : Nat → Nat} {so : kSo} (h : kESR G sa so) {A : Nat → Prop} {s : State} {H : Heap} (g : G A s H) : vk_R "KnowHouseModel" 17 "values" (sa 308) s := (h A s H g).2.2.2.2.1
theorem kESR_5 {G : kGt} {sa : Nat → Nat} {so : kSo} (h : kESR G sa so) {A : Nat → Prop} {s : State} {H : Heap} (g : G A s H) : vk_R "KnowHouseModel" 19 "proofs" (sa 309) s := (h A s H g).2.2.2.2.2.1
theorem kESR_6 {G : kGt} {sa : Nat → Nat} {so : kSo} (h : kESR G sa so) {A : Nat → Prop} {s : State} {H : Heap} (g : G A s H) : vk_R "KnowHouseModel" 21 "rights" (sa 310) s := (h A s H g).2.2.2.2.2.2.1
theorem kESR_7 {G : kGt} {sa : Nat → Nat} {so : kSo} (h : kESR G sa so) {A : Nat → Prop} {s : State} {H : Heap} (g : G A s H) : vk_R "KnowHouseModel" 23 "classes" (sa 311) s := (h A s H g).2.2.2.2.2.2.2.1
theorem kESR_8 {G : kGt} {sa : Nat → Nat} {so : kSo} (h : kESR G sa so) {A : Nat → Prop} {s : State} {H : Heap} (g : G A s H) : vk_R "KnowHouseModel" 25 "facets" (sa 312) s := (h A s H g).2.2.2.2.2.2.2.2.1
theorem kESR_9 {G : kGt} {sa : Nat → Nat} {so : kSo} (h : kESR G sa so) {A : Nat → Prop} {s : State} {H : Heap} (g : G A s H) : vk_R "KnowHouseModel" 27 "tables" (sa 313) s := (h A s H g).2.2.2.2.2.2.2.2.2.1
theorem kESR_10 {G : kGt} {sa : Nat → Nat} {so : kSo} (h : kESR G sa so) {A : Nat → Prop} {s : State} {H : Heap} (g : G A s H) : vk_R "KnowHouseModel" 29 "rules" (sa 314) s := (h A s H g).2.2.2.2.2.2.2.2.2.2.1
theorem kESR_11 {G : kGt} {sa : Nat → Nat} {so : kSo} (h : kESR G sa so) {A : Nat → Prop} {s : State} {H : Heap} (g : G A s H) : vk_R "KnowHouseModel" 31 "rewrite" (sa 315) s := (h A s H g).2.2.2.2.2.2.2.2.2.2.2.1
theorem kESR_12 {G : kGt} {sa : Nat → Nat} {so : kSo} (h : kESR G sa so) {A : Nat → Prop} {s : State} {H : Heap} (g : G A s H) : vk_R "KnowHouseModel" 33 "disk" (sa 316) s := (h A s H g).2.2.2.2.2.2.2.2.2.2.2.2.1
theorem kESR_13 {G : kGt} {sa : Nat → Nat} {so : kSo} (h : kESR G sa so) {A : Nat → Prop} {s : State} {H : Heap} (g : G A s H) : vk_R "KnowHouseModel" 43 "say iib" (sa 317) s := (h A s H g).2.2.2.2.2.2.2.2.2.2.2.2.2.1
theorem kESR_14 {G : kGt} {sa : Nat → Nat} {so : kSo} (h : kESR G sa so) {A : Nat → Prop} {s : State} {H : Heap} (g : G A s H) : vk_R "KnowHouseModel" 45 "level " (sa 318) s := (h A s H g).2.2.2.2.2.2.2.2.2.2.2.2.2.2.1
theorem kESR_15 {G : kGt} {sa : Nat → Nat} {so : kSo} (h : kESR G sa so) {A : Nat → Prop} {s : State} {H : Heap} (g : G A s H) : vk_R "KnowHouseModel" 47 "publish " (sa 319) s := (h A s H g).2.2.2.2.2.2.2.2.2.2.2.2.2.2.2.1
theorem kESR_16 {G : kGt} {sa : Nat → Nat} {so : kSo} (h : kESR G sa so) {A : Nat → Prop} {s : State} {H : Heap} (g : G A s H) : vk_R "KnowHouseModel" 49 "under ii" (sa 320) s := (h A s H g).2.2.2.2.2.2.2.2.2.2.2.2.2.2.2.2.1
theorem kESR_17 {G : kGt} {sa : Nat → Nat} {so : kSo} (h : kESR G sa so) {A : Nat → Prop} {s : State} {H : Heap} (g : G A s H) : vk_R "KnowHouseModel" 51 "is ii" (sa 321) s := (h A s H g).2.2.2.2.2.2.2.2.2.2.2.2.2.2.2.2.2.1
theorem kESR_18 {G : kGt} {sa : Nat → Nat} {so : kSo} (h : kESR G sa so) {A : Nat → Prop} {s : State} {H : Heap} (g : G A s H) : vk_R "KnowHouseModel" 53 "order " (sa 322) s := (h A s H g).2.2.2.2.2.2.2.2.2.2.2.2.2.2.2.2.2.2.1
theorem kESR_19 {G : kGt} {sa : Nat → Nat} {so : kSo} (h : kESR G sa so) {A : Nat → Prop} {s : State} {H : Heap} (g : G A s H) : vk_R "KnowHouseModel" 55 "take iii" (sa 323) s := (h A s H g).2.2.2.2.2.2.2.2.2.2.2.2.2.2.2.2.2.2.2.1
theorem kESR_20 {G : kGt} {sa : Nat → Nat} {so : kSo} (h : kESR G sa so) {A : Nat → Prop} {s : State} {H : Heap} (g : G A s H) : vk_R "KnowHouseModel" 57 "store i" (sa 324) s := (h A s H g).2.2.2.2.2.2.2.2.2.2.2.2.2.2.2.2.2.2.2.2.1
theorem kESR_21 {G : kGt} {sa : Nat → Nat} {so : kSo} (h : kESR G sa so) {A : Nat → Prop} {s : State} {H : Heap} (g : G A s H) : vk_R "KnowHouseModel" 59 "audit " (sa 325) s := (h A s H g).2.2.2.2.2.2.2.2.2.2.2.2.2.2.2.2.2.2.2.2.2.1
theorem kESR_22 {G : kGt} {sa : Nat → Nat} {so : kSo} (h : kESR G sa so) {A : Nat → Prop} {s : State} {H : Heap} (g : G A s H) : vk_R "KnowHouseModel" 61 "entry ii" (sa 326) s := (h A s H g).2.2.2.2.2.2.2.2.2.2.2.2.2.2.2.2.2.2.2.2.2.2.1
theorem kESR_23 {G : kGt} {sa : Nat → Nat} {so : kSo} (h : kESR G sa so) {A : Nat → Prop} {s : State} {H : Heap} (g : G A s H) : vk_R "KnowHouseModel" 66 "blank " (sa 327) s := (h A s H g).2.2.2.2.2.2.2.2.2.2.2.2.2.2.2.2.2.2.2.2.2.2.2.1
theorem kESR_24 {G : kGt} {sa : Nat → Nat} {so : kSo} (h : kESR G sa so) {A : Nat → Prop} {s : State} {H : Heap} (g : G A s H) : vk_R "KnowHouseModel" 68 "triple iii" (sa 328) s := (h A s H g).2.2.2.2.2.2.2.2.2.2.2.2.2.2.2.2.2.2.2.2.2.2.2.2.1
theorem kESR_25 {G : kGt} {sa : Nat → Nat} {so : kSo} (h : kESR G sa so) {A : Nat → Prop} {s : State} {H : Heap} (g : G A s H) : vk_R "KnowHouseModel" 70 "drop iii" (sa 329) s := (h A s H g).2.2.2.2.2.2.2.2.2.2.2.2.2.2.2.2.2.2.2.2.2.2.2.2.2.1
theorem kESR_26 {G : kGt} {sa : Nat → Nat} {so : kSo} (h : kESR G sa so) {A : Nat → Prop} {s : State} {H : Heap} (g : G A s H) : vk_R "KnowHouseModel" 72 "name l" (sa 330) s := (h A s H g).2.2.2.2.2.2.2.2.2.2.2.2.2.2.2.2.2.2.2.2.2.2.2.2.2.2.1
theorem kESR_27 {G : kGt} {sa : Nat → Nat} {so : kSo} (h : kESR G sa so) {A : Nat → Prop} {s : State} {H : Heap} (g : G A s H) : vk_R "KnowHouseModel" 74 "named i" (sa 331) s := (h A s H g).2.2.2.2.2.2.2.2.2.2.2.2.2.2.2.2.2.2.2.2.2.2.2.2.2.2.2.1
theorem kESR_28 {G : kGt} {sa : Nat → Nat} {so : kSo} (h : kESR G sa so) {A : Nat → Prop} {s : State} {H : Heap} (g : G A s H) : vk_R "KnowHouseModel" 76 "form ii" (sa 332) s := (h A s H g).2.2.2.2.2.2.2.2.2.2.2.2.2.2.2.2.2.2.2.2.2.2.2.2.2.2.2.2.1
theorem kESR_29 {G : kGt} {sa : Nat → Nat} {so : kSo} (h : kESR G sa so) {A : Nat → Prop} {s : State} {H : Heap} (g : G A s H) : vk_R "KnowHouseModel" 78 "hash ii" (sa 333) s := (h A s H g).2.2.2.2.2.2.2.2.2.2.2.2.2.2.2.2.2.2.2.2.2.2.2.2.2.2.2.2.2.1
theorem kESR_30 {G : kGt} {sa : Nat → Nat} {so : kSo} (h : kESR G sa so) {A : Nat → Prop} {s : State} {H : Heap} (g : G A s H) : vk_R "KnowHouseModel" 80 "rounds " (sa 334) s := (h A s H g).2.2.2.2.2.2.2.2.2.2.2.2.2.2.2.2.2.2.2.2.2.2.2.2.2.2.2.2.2.2.1
theorem kESR_31 {G : kGt} {sa : Nat → Nat} {so : kSo} (h : kESR G sa so) {A : Nat → Prop} {s : State} {H : Heap} (g : G A s H) : vk_R "KnowHouseModel" 82 "first ii" (sa 335) s := (h A s H g).2.2.2.2.2.2.2.2.2.2.2.2.2.2.2.2.2.2.2.2.2.2.2.2.2.2.2.2.2.2.2.1
theorem kESR_32 {G : kGt} {sa : Nat → Nat} {so : kSo} (h : kESR G sa so) {A : Nat → Prop} {s : State} {H : Heap} (g : G A s H) : vk_R "KnowHouseModel" 84 "keep " (sa 336) s := (h A s H g).2.2.2.2.2.2.2.2.2.2.2.2.2.2.2.2.2.2.2.2.2.2.2.2.2.2.2.2.2.2.2.2.1
theorem kESR_33 {G : kGt} {sa : Nat → Nat} {so : kSo} (h : kESR G sa so) {A : Nat → Prop} {s : State} {H : Heap} (g : G A s H) : vk_R "KnowHouseModel" 86 "isomorphic i" (sa 337) s := (h A s H g).2.2.2.2.2.2.2.2.2.2.2.2.2.2.2.2.2.2.2.2.2.2.2.2.2.2.2.2.2.2.2.2.2.1
theorem kESR_34 {G : kGt} {sa : Nat → Nat} {so : kSo} (h : kESR G sa so) {A : Nat → Prop} {s : State} {H : Heap} (g : G A s H) : vk_R "KnowHouseModel" 88 "ways i" (sa 338) s := (h A s H g).2.2.2.2.2.2.2.2.2.2.2.2.2.2.2.2.2.2.2.2.2.2.2.2.2.2.2.2.2.2.2.2.2.2.1
theorem kESR_35 {G : kGt} {sa : Nat → Nat} {so : kSo} (h : kESR G sa so) {A : Nat → Prop} {s : State} {H : Heap} (g : G A s H) : vk_R "KnowHouseModel" 90 "equal i" (sa 339) s := (h A s H g).2.2.2.2.2.2.2.2.2.2.2.2.2.2.2.2.2.2.2.2.2.2.2.2.2.2.2.2.2.2.2.2.2.2.2.1
theorem kESR_36 {G : kGt} {sa : Nat → Nat} {so : kSo} (h : kESR G sa so) {A : Nat → Prop} {s : State} {H : Heap} (g : G A s H) : vk_R "KnowHouseModel" 92 "triples " (sa 340) s := (h A s H g).2.2.2.2.2.2.2.2.2.2.2.2.2.2.2.2.2.2.2.2.2.2.2.2.2.2.2.2.2.2.2.2.2.2.2.2.1
theorem kESR_37 {G : kGt} {sa : Nat → Nat} {so : kSo} (h : kESR G sa so) {A : Nat → Prop} {s : State} {H : Heap} (g : G A s H) : vk_R "KnowHouseModel" 94 "blanks " (sa 341) s := (h A s H g).2.2.2.2.2.2.2.2.2.2.2.2.2.2.2.2.2.2.2.2.2.2.2.2.2.2.2.2.2.2.2.2.2.2.2.2.2.1
theorem kESR_38 {G : kGt} {sa : Nat → Nat} {so : kSo} (h : kESR G sa so) {A : Nat → Prop} {s : State} {H : Heap} (g : G A s H) : vk_R "KnowHouseModel" 96 "begin " (sa 342) s := (h A s H g).2.2.2.2.2.2.2.2.2.2.2.2.2.2.2.2.2.2.2.2.2.2.2.2.2.2.2.2.2.2.2.2.2.2.2.2.2.2.1
theorem kESR_39 {G : kGt} {sa : Nat → Nat} {so : kSo} (h : kESR G sa so) {A : Nat → Prop} {s : State} {H : Heap} (g : G A s H) : vk_R "KnowHouseModel" 98 "look i" (sa 343) s := (h A s H g).2.2.2.2.2.2.2.2.2.2.2.2.2.2.2.2.2.2.2.2.2.2.2.2.2.2.2.2.2.2.2.2.2.2.2.2.2.2.2.1
theorem kESR_40 {G : kGt} {sa : Nat → Nat} {so : kSo} (h : kESR G sa so) {A : Nat → Prop} {s : State} {H : Heap} (g : G A s H) : vk_R "KnowHouseModel" 100 "put iib" (sa 344) s := (h A s H g).2.2.2.2.2.2.2.2.2.2.2.2.2.2.2.2.2.2.2.2.2.2.2.2.2.2.2.2.2.2.2.2.2.2.2.2.2.2.2.2.1
theorem kESR_41 {G : kGt} {sa : Nat → Nat} {so : kSo} (h : kESR G sa so) {A : Nat → Prop} {s : State} {H : Heap} (g : G A s H) : vk_R "KnowHouseModel" 102 "note ii" (sa 345) s := (h A s H g).2.2.2.2.2.2.2.2.2.2.2.2.2.2.2.2.2.2.2.2.2.2.2.2.2.2.2.2.2.2.2.2.2.2.2.2.2.2.2.2.2.1
theorem kESR_42 {G : kGt} {sa : Nat → Nat} {so : kSo} (h : kESR G sa so) {A : Nat → Prop} {s : State} {H : Heap} (g : G A s H) : vk_R "KnowHouseModel" 104 "read ii" (sa 346) s := (h A s H g).2.2.2.2.2.2.2.2.2.2.2.2.2.2.2.2.2.2.2.2.2.2.2.2.2.2.2.2.2.2.2.2.2.2.2.2.2.2.2.2.2.2.1
theorem kESR_43 {G : kGt} {sa : Nat → Nat} {so : kSo} (h : kESR G sa so) {A : Nat → Prop} {s : State} {H : Heap} (g : G A s H) : vk_R "KnowHouseModel" 106 "told ii" (sa 347) s := (h A s H g).2.2.2.2.2.2.2.2.2.2.2.2.2.2.2.2.2.2.2.2.2.2.2.2.2.2.2.2.2.2.2.2.2.2.2.2.2.2.2.2.2.2.2.1
theorem kESR_44 {G : kGt} {sa : Nat → Nat} {so : kSo} (h : kESR G sa so) {A : Nat → Prop} {s : State} {H : Heap} (g : G A s H) : vk_R "KnowHouseModel" 108 "commit i" (sa 348) s := (h A s H g).2.2.2.2.2.2.2.2.2.2.2.2.2.2.2.2.2.2.2.2.2.2.2.2.2.2.2.2.2.2.2.2.2.2.2.2.2.2.2.2.2.2.2.2.1
theorem kESR_45 {G : kGt} {sa : Nat → Nat} {so : kSo} (h : kESR G sa so) {A : Nat → Prop} {s : State} {H : Heap} (g : G A s H) : vk_R "KnowHouseModel" 110 "abort i" (sa 349) s := (h A s H g).2.2.2.2.2.2.2.2.2.2.2.2.2.2.2.2.2.2.2.2.2.2.2.2.2.2.2.2.2.2.2.2.2.2.2.2.2.2.2.2.2.2.2.2.2.1
theorem kESR_46 {G : kGt} {sa : Nat → Nat} {so : kSo} (h : kESR G sa so) {A : Nat → Prop} {s : State} {H : Heap} (g : G A s H) : vk_R "KnowHouseModel" 112 "pin i" (sa 350) s := (h A s H g).2.2.2.2.2.2.2.2.2.2.2.2.2.2.2.2.2.2.2.2.2.2.2.2.2.2.2.2.2.2.2.2.2.2.2.2.2.2.2.2.2.2.2.2.2.2.1
theorem kESR_47 {G : kGt} {sa : Nat → Nat} {so : kSo} (h : kESR G sa so) {A : Nat → Prop} {s : State} {H : Heap} (g : G A s H) : vk_R "KnowHouseModel" 114 "unpin i" (sa 351) s := (h A s H g).2.2.2.2.2.2.2.2.2.2.2.2.2.2.2.2.2.2.2.2.2.2.2.2.2.2.2.2.2.2.2.2.2.2.2.2.2.2.2.2.2.2.2.2.2.2.2.1
theorem kESR_48 {G : kGt} {sa : Nat → Nat} {so : kSo} (h : kESR G sa so) {A : Nat → Prop} {s : State} {H : Heap} (g : G A s H) : vk_R "KnowHouseModel" 116 "free " (sa 352) s := (h A s H g).2.2.2.2.2.2.2.2.2.2.2.2.2.2.2.2.2.2.2.2.2.2.2.2.2.2.2.2.2.2.2.2.2.2.2.2.2.2.2.2.2.2.2.2.2.2.2.2.1
theorem kESR_49 {G : kGt} {sa : Nat → Nat} {so : kSo} (h : kESR G sa so) {A : Nat → Prop} {s : State} {H : Heap} (g : G A s H) : vk_R "KnowHouseModel" 118 "rows " (sa 353) s := (h A s H g).2.2.2.2.2.2.2.2.2.2.2.2.2.2.2.2.2.2.2.2.2.2.2.2.2.2.2.2.2.2.2.2.2.2.2.2.2.2.2.2.2.2.2.2.2.2.2.2.2.1
theorem kESR_50 {G : kGt} {sa : Nat → Nat} {so : kSo} (h : kESR G sa so) {A : Nat → Prop} {s : State} {H : Heap} (g : G A s H) : vk_R "KnowHouseModel" 120 "latest " (sa 354) s := (h A s H g).2.2.2.2.2.2.2.2.2.2.2.2.2.2.2.2.2.2.2.2.2.2.2.2.2.2.2.2.2.2.2.2.2.2.2.2.2.2.2.2.2.2.2.2.2.2.2.2.2.2.1
theorem kESR_51 {G : kGt} {sa : Nat → Nat} {so : kSo} (h : kESR G sa so) {A : Nat → Prop} {s : State} {H : Heap} (g : G A s H) : vk_R "KnowHouseModel" 122 "least " (sa 355) s := (h A s H g).2.2.2.2.2.2.2.2.2.2.2.2.2.2.2.2.2.2.2.2.2.2.2.2.2.2.2.2.2.2.2.2.2.2.2.2.2.2.2.2.2.2.2.2.2.2.2.2.2.2.2.1
theorem kESR_52 {G : kGt} {sa : Nat → Nat} {so : kSo} (h : kESR G sa so) {A : Nat → Prop} {s : State} {H : Heap} (g : G A s H) : vk_R "KnowHouseModel" 124 "state i" (sa 356) s := (h A s H g).2.2.2.2.2.2.2.2.2.2.2.2.2.2.2.2.2.2.2.2.2.2.2.2.2.2.2.2.2.2.2.2.2.2.2.2.2.2.2.2.2.2.2.2.2.2.2.2.2.2.2.2.1
theorem kESR_53 {G : kGt} {sa : Nat → Nat} {so : kSo} (h : kESR G sa so) {A : Nat → Prop} {s : State} {H : Heap} (g : G A s H) : vk_R "KnowHouseModel" 126 "waits i" (sa 357) s := (h A s H g).2.2.2.2.2.2.2.2.2.2.2.2.2.2.2.2.2.2.2.2.2.2.2.2.2.2.2.2.2.2.2.2.2.2.2.2.2.2.2.2.2.2.2.2.2.2.2.2.2.2.2.2.2.1
theorem kESR_54 {G : kGt} {sa : Nat → Nat} {so : kSo} (h : kESR G sa so) {A : Nat → Prop} {s : State} {H : Heap} (g : G A s H) : vk_R "KnowHouseModel" 128 "ring i" (sa 358) s := (h A s H g).2.2.2.2.2.2.2.2.2.2.2.2.2.2.2.2.2.2.2.2.2.2.2.2.2.2.2.2.2.2.2.2.2.2.2.2.2.2.2.2.2.2.2.2.2.2.2.2.2.2.2.2.2.2.1
theorem kESR_55 {G : kGt} {sa : Nat → Nat} {so : kSo} (h : kESR G sa so) {A : Nat → Prop} {s : State} {H : Heap} (g : G A s H) : vk_R "KnowHouseModel" 130 "conflicts ii" (sa 359) s := (h A s H g).2.2.2.2.2.2.2.2.2.2.2.2.2.2.2.2.2.2.2.2.2.2.2.2.2.2.2.2.2.2.2.2.2.2.2.2.2.2.2.2.2.2.2.2.2.2.2.2.2.2.2.2.2.2.2.1
theorem kESR_56 {G : kGt} {sa : Nat → Nat} {so : kSo} (h : kESR G sa so) {A : Nat → Prop} {s : State} {H : Heap} (g : G A s H) : vk_R "KnowHouseModel" 132 "type li" (sa 360) s := (h A s H g).2.2.2.2.2.2.2.2.2.2.2.2.2.2.2.2.2.2.2.2.2.2.2.2.2.2.2.2.2.2.2.2.2.2.2.2.2.2.2.2.2.2.2.2.2.2.2.2.2.2.2.2.2.2.2.2.1
theorem kESR_57 {G : kGt} {sa : Nat → Nat} {so : kSo} (h : kESR G sa so) {A : Nat → Prop} {s : State} {H : Heap} (g : G A s H) : vk_R "KnowHouseModel" 134 "read i" (sa 361) s := (h A s H g).2.2.2.2.2.2.2.2.2.2.2.2.2.2.2.2.2.2.2.2.2.2.2.2.2.2.2.2.2.2.2.2.2.2.2.2.2.2.2.2.2.2.2.2.2.2.2.2.2.2.2.2.2.2.2.2.2.1
theorem kESR_58 {G : kGt} {sa : Nat → Nat} {so : kSo} (h : kESR G sa so) {A : Nat → Prop} {s : State} {H : Heap} (g : G A s H) : vk_R "KnowHouseModel" 136 "values " (sa 362) s := (h A s H g).2.2.2.2.2.2.2.2.2.2.2.2.2.2.2.2.2.2.2.2.2.2.2.2.2.2.2.2.2.2.2.2.2.2.2.2.2.2.2.2.2.2.2.2.2.2.2.2.2.2.2.2.2.2.2.2.2.2.1
theorem kESR_59 {G : kGt} {sa : Nat → Nat} {so : kSo} (h : kESR G sa so) {A : Nat → Prop} {s : State} {H : Heap} (g : G A s H) : vk_R "KnowHouseModel" 138 "kind i" (sa 363) s := (h A s H g).2.2.2.2.2.2.2.2.2.2.2.2.2.2.2.2.2.2.2.2.2.2.2.2.2.2.2.2.2.2.2.2.2.2.2.2.2.2.2.2.2.2.2.2.2.2.2.2.2.2.2.2.2.2.2.2.2.2.2.1
theorem kESR_60 {G : kGt} {sa : Nat → Nat} {so : kSo} (h : kESR G sa so) {A : Nat → Prop} {s : State} {H : Heap} (g : G A s H) : vk_R "KnowHouseModel" 140 "compare ii" (sa 364) s := (h A s H g).2.2.2.2.2.2.2.2.2.2.2.2.2.2.2.2.2.2.2.2.2.2.2.2.2.2.2.2.2.2.2.2.2.2.2.2.2.2.2.2.2.2.2.2.2.2.2.2.2.2.2.2.2.2.2.2.2.2.2.2.1
theorem kESR_61 {G : kGt} {sa : Nat → Nat} {so : kSo} (h : kESR G sa so) {A : Nat → Prop} {s : State} {H : Heap} (g : G A s H) : vk_R "KnowHouseModel" 142 "part ii" (sa 365) s := (h A s H g).2.2.2.2.2.2.2.2.2.2.2.2.2.2.2.2.2.2.2.2.2.2.2.2.2.2.2.2.2.2.2.2.2.2.2.2.2.2.2.2.2.2.2.2.2.2.2.2.2.2.2.2.2.2.2.2.2.2.2.2.2.1
theorem kESR_62 {G : kGt} {sa : Nat → Nat} {so : kSo} (h : kESR G sa so) {A : Nat → Prop} {s : State} {H : Heap} (g : G A s H) : vk_R "KnowHouseModel" 144 "byteOf ii" (sa 366) s := (h A s H g).2.2.2.2.2.2.2.2.2.2.2.2.2.2.2.2.2.2.2.2.2.2.2.2.2.2.2.2.2.2.2.2.2.2.2.2.2.2.2.2.2.2.2.2.2.2.2.2.2.2.2.2.2.2.2.2.2.2.2.2.2.2.1
theorem kESR_63 {G : kGt} {sa : Nat → Nat} {so : kSo} (h : kESR G sa so) {A : Nat → Prop} {s : State} {H : Heap} (g : G A s H) : vk_R "KnowHouseModel" 146 "tell i" (sa 367) s := (h A s H g).2.2.2.2.2.2.2.2.2.2.2.2.2.2.2.2.2.2.2.2.2.2.2.2.2.2.2.2.2.2.2.2.2.2.2.2.2.2.2.2.2.2.2.2.2.2.2.2.2.2.2.2.2.2.2.2.2.2.2.2.2.2.2.1
theorem kESR_64 {G : kGt} {sa : Nat → Nat} {so : kSo} (h : kESR G sa so) {A : Nat → Prop} {s : State} {H : Heap} (g : G A s H) : vk_R "KnowHouseModel" 148 "told i" (sa 368) s := (h A s H g).2.2.2.2.2.2.2.2.2.2.2.2.2.2.2.2.2.2.2.2.2.2.2.2.2.2.2.2.2.2.2.2.2.2.2.2.2.2.2.2.2.2.2.2.2.2.2.2.2.2.2.2.2.2.2.2.2.2.2.2.2.2.2.2.1
theorem kESR_65 {G : kGt} {sa : Nat → Nat} {so : kSo} (h : kESR G sa so) {A : Nat → Prop} {s : State} {H : Heap} (g : G A s H) : vk_R "KnowHouseModel" 150 "apply iii" (sa 369) s := (h A s H g).2.2.2.2.2.2.2.2.2.2.2.2.2.2.2.2.2.2.2.2.2.2.2.2.2.2.2.2.2.2.2.2.2.2.2.2.2.2.2.2.2.2.2.2.2.2.2.2.2.2.2.2.2.2.2.2.2.2.2.2.2.2.2.2.2.1
theorem kESR_66 {G : kGt} {sa : Nat → Nat} {so : kSo} (h : kESR G sa so) {A : Nat → Prop} {s : State} {H : Heap} (g : G A s H) : vk_R "KnowHouseModel" 152 "axiom iii" (sa 370) s := (h A s H g).2.2.2.2.2.2.2.2.2.2.2.2.2.2.2.2.2.2.2.2.2.2.2.2.2.2.2.2.2.2.2.2.2.2.2.2.2.2.2.2.2.2.2.2.2.2.2.2.2.2.2.2.2.2.2.2.2.2.2.2.2.2.2.2.2.2.1
theorem kESR_67 {G : kGt} {sa : Nat → Nat} {so : kSo} (h : kESR G sa so) {A : Nat → Prop} {s : State} {H : Heap} (g : G A s H) : vk_R "KnowHouseModel" 154 "row iii" (sa 371) s := (h A s H g).2.2.2.2.2.2.2.2.2.2.2.2.2.2.2.2.2.2.2.2.2.2.2.2.2.2.2.2.2.2.2.2.2.2.2.2.2.2.2.2.2.2.2.2.2.2.2.2.2.2.2.2.2.2.2.2.2.2.2.2.2.2.2.2.2.2.2.1
theorem kESR_68 {G : kGt} {sa : Nat → Nat} {so : kSo} (h : kESR G sa so) {A : Nat → Prop} {s : State} {H : Heap} (g : G A s H) : vk_R "KnowHouseModel" 156 "premise ii" (sa 372) s := (h A s H g).2.2.2.2.2.2.2.2.2.2.2.2.2.2.2.2.2.2.2.2.2.2.2.2.2.2.2.2.2.2.2.2.2.2.2.2.2.2.2.2.2.2.2.2.2.2.2.2.2.2.2.2.2.2.2.2.2.2.2.2.2.2.2.2.2.2.2.2.1
theorem kESR_69 {G : kGt} {sa : Nat → Nat} {so : kSo} (h : kESR G sa so) {A : Nat → Prop} {s : State} {H : Heap} (g : G A s H) : vk_R "KnowHouseModel" 158 "check i" (sa 373) s := (h A s H g).2.2.2.2.2.2.2.2.2.2.2.2.2.2.2.2.2.2.2.2.2.2.2.2.2.2.2.2.2.2.2.2.2.2.2.2.2.2.2.2.2.2.2.2.2.2.2.2.2.2.2.2.2.2.2.2.2.2.2.2.2.2.2.2.2.2.2.2.2.1
theorem kESR_70 {G : kGt} {sa : Nat → Nat} {so : kSo} (h : kESR G sa so) {A : Nat → Prop} {s : State} {H : Heap} (g : G A s H) : vk_R "KnowHouseModel" 160 "broken " (sa 374) s := (h A s H g).2.2.2.2.2.2.2.2.2.2.2.2.2.2.2.2.2.2.2.2.2.2.2.2.2.2.2.2.2.2.2.2.2.2.2.2.2.2.2.2.2.2.2.2.2.2.2.2.2.2.2.2.2.2.2.2.2.2.2.2.2.2.2.2.2.2.2.2.2.2.1
theorem kESR_71 {G : kGt} {sa : Nat → Nat} {so : kSo} (h : kESR G sa so) {A : Nat → Prop} {s : State} {H : Heap} (g : G A s H) : vk_R "KnowHouseModel" 162 "rows i" (sa 375) s := (h A s H g).2.2.2.2.2.2.2.2.2.2.2.2.2.2.2.2.2.2.2.2.2.2.2.2.2.2.2.2.2.2.2.2.2.2.2.2.2.2.2.2.2.2.2.2.2.2.2.2.2.2.2.2.2.2.2.2.2.2.2.2.2.2.2.2.2.2.2.2.2.2.2.1
theorem kESR_72 {G : kGt} {sa : Nat → Nat} {so : kSo} (h : kESR G sa so) {A : Nat → Prop} {s : State} {H : Heap} (g : G A s H) : vk_R "KnowHouseModel" 164 "size i" (sa 376) s := (h A s H g).2.2.2.2.2.2.2.2.2.2.2.2.2.2.2.2.2.2.2.2.2.2.2.2.2.2.2.2.2.2.2.2.2.2.2.2.2.2.2.2.2.2.2.2.2.2.2.2.2.2.2.2.2.2.2.2.2.2.2.2.2.2.2.2.2.2.2.2.2.2.2.2.1
theorem kESR_73 {G : kGt} {sa : Nat → Nat} {so : kSo} (h : kESR G sa so) {A : Nat → Prop} {s : State} {H : Heap} (g : G A s H) : vk_R "KnowHouseModel" 166 "drop i" (sa 377) s := (h A s H g).2.2.2.2.2.2.2.2.2.2.2.2.2.2.2.2.2.2.2.2.2.2.2.2.2.2.2.2.2.2.2.2.2.2.2.2.2.2.2.2.2.2.2.2.2.2.2.2.2.2.2.2.2.2.2.2.2.2.2.2.2.2.2.2.2.2.2.2.2.2.2.2.2.1
theorem kESR_74 {G : kGt} {sa : Nat → Nat} {so : kSo} (h : kESR G sa so) {A : Nat → Prop} {s : State} {H : Heap} (g : G A s H) : vk_R "KnowHouseModel" 168 "name i" (sa 378) s := (h A s H g).2.2.2.2.2.2.2.2.2.2.2.2.2.2.2.2.2.2.2.2.2.2.2.2.2.2.2.2.2.2.2.2.2.2.2.2.2.2.2.2.2.2.2.2.2.2.2.2.2.2.2.2.2.2.2.2.2.2.2.2.2.2.2.2.2.2.2.2.2.2.2.2.2.2.1
theorem kESR_75 {G : kGt} {sa : Nat → Nat} {so : kSo} (h : kESR G sa so) {A : Nat → Prop} {s : State} {H : Heap} (g : G A s H) : vk_R "KnowHouseModel" 170 "states ii" (sa 379) s := (h A s H g).2.2.2.2.2.2.2.2.2.2.2.2.2.2.2.2.2.2.2.2.2.2.2.2.2.2.2.2.2.2.2.2.2.2.2.2.2.2.2.2.2.2.2.2.2.2.2.2.2.2.2.2.2.2.2.2.2.2.2.2.2.2.2.2.2.2.2.2.2.2.2.2.2.2.2.1
theorem kESR_76 {G : kGt} {sa : Nat → Nat} {so : kSo} (h : kESR G sa so) {A : Nat → Prop} {s : State} {H : Heap} (g : G A s H) : vk_R "KnowHouseModel" 172 "sentence i" (sa 380) s := (h A s H g).2.2.2.2.2.2.2.2.2.2.2.2.2.2.2.2.2.2.2.2.2.2.2.2.2.2.2.2.2.2.2.2.2.2.2.2.2.2.2.2.2.2.2.2.2.2.2.2.2.2.2.2.2.2.2.2.2.2.2.2.2.2.2.2.2.2.2.2.2.2.2.2.2.2.2.2.1
theorem kESR_77 {G : kGt} {sa : Nat → Nat} {so : kSo} (h : kESR G sa so) {A : Nat → Prop} {s : State} {H : Heap} (g : G A s H) : vk_R "KnowHouseModel" 174 "at i" (sa 381) s := (h A s H g).2.2.2.2.2.2.2.2.2.2.2.2.2.2.2.2.2.2.2.2.2.2.2.2.2.2.2.2.2.2.2.2.2.2.2.2.2.2.2.2.2.2.2.2.2.2.2.2.2.2.2.2.2.2.2.2.2.2.2.2.2.2.2.2.2.2.2.2.2.2.2.2.2.2.2.2.2.1
theorem kESR_78 {G : kGt} {sa : Nat → Nat} {so : kSo} (h : kESR G sa so) {A : Nat → Prop} {s : State} {H : Heap} (g : G A s H) : vk_R "KnowHouseModel" 176 "concludes ii" (sa 382) s := (h A s H g).2.2.2.2.2.2.2.2.2.2.2.2.2.2.2.2.2.2.2.2.2.2.2.2.2.2.2.2.2.2.2.2.2.2.2.2.2.2.2.2.2.2.2.2.2.2.2.2.2.2.2.2.2.2.2.2.2.2.2.2.2.2.2.2.2.2.2.2.2.2.2.2.2.2.2.2.2.2.1
theorem kESR_79 {G : kGt} {sa : Nat → Nat} {so : kSo} (h : kESR G sa so) {A : Nat → Prop} {s : State} {H : Heap} (g : G A s H) : vk_R "KnowHouseModel" 178 "member iib" (sa 383) s := (h A s H g).2.2.2.2.2.2.2.2.2.2.2.2.2.2.2.2.2.2.2.2.2.2.2.2.2.2.2.2.2.2.2.2.2.2.2.2.2.2.2.2.2.2.2.2.2.2.2.2.2.2.2.2.2.2.2.2.2.2.2.2.2.2.2.2.2.2.2.2.2.2.2.2.2.2.2.2.2.2.2.1
theorem kESR_80 {G : kGt} {sa : Nat → Nat} {so : kSo} (h : kESR G sa so) {A : Nat → Prop} {s : State} {H : Heap} (g : G A s H) : vk_R "KnowHouseModel" 180 "condition iiii" (sa 384) s := (h A s H g).2.2.2.2.2.2.2.2.2.2.2.2.2.2.2.2.2.2.2.2.2.2.2.2.2.2.2.2.2.2.2.2.2.2.2.2.2.2.2.2.2.2.2.2.2.2.2.2.2.2.2.2.2.2.2.2.2.2.2.2.2.2.2.2.2.2.2.2.2.2.2.2.2.2.2.2.2.2.2.2.1
theorem kESR_81 {G : kGt} {sa : Nat → Nat} {so : kSo} (h : kESR G sa so) {A : Nat → Prop} {s : State} {H : Heap} (g : G A s H) : vk_R "KnowHouseModel" 182 "rule ibi" (sa 385) s := (h A s H g).2.2.2.2.2.2.2.2.2.2.2.2.2.2.2.2.2.2.2.2.2.2.2.2.2.2.2.2.2.2.2.2.2.2.2.2.2.2.2.2.2.2.2.2.2.2.2.2.2.2.2.2.2.2.2.2.2.2.2.2.2.2.2.2.2.2.2.2.2.2.2.2.2.2.2.2.2.2.2.2.2.1
theorem kESR_82 {G : kGt} {sa : Nat → Nat} {so : kSo} (h : kESR G sa so) {A : Nat → Prop} {s : State} {H : Heap} (g : G A s H) : vk_R "KnowHouseModel" 184 "may iiiiii" (sa 386) s := (h A s H g).2.2.2.2.2.2.2.2.2.2.2.2.2.2.2.2.2.2.2.2.2.2.2.2.2.2.2.2.2.2.2.2.2.2.2.2.2.2.2.2.2.2.2.2.2.2.2.2.2.2.2.2.2.2.2.2.2.2.2.2.2.2.2.2.2.2.2.2.2.2.2.2.2.2.2.2.2.2.2.2.2.2.1
theorem kESR_83 {G : kGt} {sa : Nat → Nat} {so : kSo} (h : kESR G sa so) {A : Nat → Prop} {s : State} {H : Heap} (g : G A s H) : vk_R "KnowHouseModel" 186 "asks i" (sa 387) s := (h A s H g).2.2.2.2.2.2.2.2.2.2.2.2.2.2.2.2.2.2.2.2.2.2.2.2.2.2.2.2.2.2.2.2.2.2.2.2.2.2.2.2.2.2.2.2.2.2.2.2.2.2.2.2.2.2.2.2.2.2.2.2.2.2.2.2.2.2.2.2.2.2.2.2.2.2.2.2.2.2.2.2.2.2.2.1
theorem kESR_84 {G : kGt} {sa : Nat → Nat} {so : kSo} (h : kESR G sa so) {A : Nat → Prop} {s : State} {H : Heap} (g : G A s H) : vk_R "KnowHouseModel" 188 "ask ii" (sa 388) s := (h A s H g).2.2.2.2.2.2.2.2.2.2.2.2.2.2.2.2.2.2.2.2.2.2.2.2.2.2.2.2.2.2.2.2.2.2.2.2.2.2.2.2.2.2.2.2.2.2.2.2.2.2.2.2.2.2.2.2.2.2.2.2.2.2.2.2.2.2.2.2.2.2.2.2.2.2.2.2.2.2.2.2.2.2.2.2.1
theorem kESR_85 {G : kGt} {sa : Nat → Nat} {so : kSo} (h : kESR G sa so) {A : Nat → Prop} {s : State} {H : Heap} (g : G A s H) : vk_R "KnowHouseModel" 190 "within ii" (sa 389) s := (h A s H g).2.2.2.2.2.2.2.2.2.2.2.2.2.2.2.2.2.2.2.2.2.2.2.2.2.2.2.2.2.2.2.2.2.2.2.2.2.2.2.2.2.2.2.2.2.2.2.2.2.2.2.2.2.2.2.2.2.2.2.2.2.2.2.2.2.2.2.2.2.2.2.2.2.2.2.2.2.2.2.2.2.2.2.2.2.1
theorem kESR_86 {G : kGt} {sa : Nat → Nat} {so : kSo} (h : kESR G sa so) {A : Nat → Prop} {s : State} {H : Heap} (g : G A s H) : vk_R "KnowHouseModel" 192 "decides i" (sa 390) s := (h A s H g).2.2.2.2.2.2.2.2.2.2.2.2.2.2.2.2.2.2.2.2.2.2.2.2.2.2.2.2.2.2.2.2.2.2.2.2.2.2.2.2.2.2.2.2.2.2.2.2.2.2.2.2.2.2.2.2.2.2.2.2.2.2.2.2.2.2.2.2.2.2.2.2.2.2.2.2.2.2.2.2.2.2.2.2.2.2.1
theorem kESR_87 {G : kGt} {sa : Nat → Nat} {so : kSo} (h : kESR G sa so) {A : Nat → Prop} {s : State} {H : Heap} (g : G A s H) : vk_R "KnowHouseModel" 194 "sees ii" (sa 391) s := (h A s H g).2.2.2.2.2.2.2.2.2.2.2.2.2.2.2.2.2.2.2.2.2.2.2.2.2.2.2.2.2.2.2.2.2.2.2.2.2.2.2.2.2.2.2.2.2.2.2.2.2.2.2.2.2.2.2.2.2.2.2.2.2.2.2.2.2.2.2.2.2.2.2.2.2.2.2.2.2.2.2.2.2.2.2.2.2.2.2.1
theorem kESR_88 {G : kGt} {sa : Nat → Nat} {so : kSo} (h : kESR G sa so) {A : Nat → Prop} {s : State} {H : Heap} (g : G A s H) : vk_R "KnowHouseModel" 196 "matters i" (sa 392) s := (h A s H g).2.2.2.2.2.2.2.2.2.2.2.2.2.2.2.2.2.2.2.2.2.2.2.2.2.2.2.2.2.2.2.2.2.2.2.2.2.2.2.2.2.2.2.2.2.2.2.2.2.2.2.2.2.2.2.2.2.2.2.2.2.2.2.2.2.2.2.2.2.2.2.2.2.2.2.2.2.2.2.2.2.2.2.2.2.2.2.2.1
theorem kESR_89 {G : kGt} {sa : Nat → Nat} {so : kSo} (h : kESR G sa so) {A : Nat → Prop} {s : State} {H : Heap} (g : G A s H) : vk_R "KnowHouseModel" 198 "idle bi" (sa 393) s := (h A s H g).2.2.2.2.2.2.2.2.2.2.2.2.2.2.2.2.2.2.2.2.2.2.2.2.2.2.2.2.2.2.2.2.2.2.2.2.2.2.2.2.2.2.2.2.2.2.2.2.2.2.2.2.2.2.2.2.2.2.2.2.2.2.2.2.2.2.2.2.2.2.2.2.2.2.2.2.2.2.2.2.2.2.2.2.2.2.2.2.2.1
theorem kESR_90 {G : kGt} {sa : Nat → Nat} {so : kSo} (h : kESR G sa so) {A : Nat → Prop} {s : State} {H : Heap} (g : G A s H) : vk_R "KnowHouseModel" 200 "apart ii" (sa 394) s := (h A s H g).2.2.2.2.2.2.2.2.2.2.2.2.2.2.2.2.2.2.2.2.2.2.2.2.2.2.2.2.2.2.2.2.2.2.2.2.2.2.2.2.2.2.2.2.2.2.2.2.2.2.2.2.2.2.2.2.2.2.2.2.2.2.2.2.2.2.2.2.2.2.2.2.2.2.2.2.2.2.2.2.2.2.2.2.2.2.2.2.2.2.1
theorem kESR_91 {G : kGt} {sa : Nat → Nat} {so : kSo} (h : kESR G sa so) {A : Nat → Prop} {s : State} {H : Heap} (g : G A s H) : vk_R "KnowHouseModel" 202 "allowed " (sa 395) s := (h A s H g).2.2.2.2.2.2.2.2.2.2.2.2.2.2.2.2.2.2.2.2.2.2.2.2.2.2.2.2.2.2.2.2.2.2.2.2.2.2.2.2.2.2.2.2.2.2.2.2.2.2.2.2.2.2.2.2.2.2.2.2.2.2.2.2.2.2.2.2.2.2.2.2.2.2.2.2.2.2.2.2.2.2.2.2.2.2.2.2.2.2.2.1
theorem kESR_92 {G : kGt} {sa : Nat → Nat} {so : kSo} (h : kESR G sa so) {A : Nat → Prop} {s : State} {H : Heap} (g : G A s H) : vk_R "KnowHouseModel" 204 "conditions " (sa 396) s := (h A s H g).2.2.2.2.2.2.2.2.2.2.2.2.2.2.2.2.2.2.2.2.2.2.2.2.2.2.2.2.2.2.2.2.2.2.2.2.2.2.2.2.2.2.2.2.2.2.2.2.2.2.2.2.2.2.2.2.2.2.2.2.2.2.2.2.2.2.2.2.2.2.2.2.2.2.2.2.2.2.2.2.2.2.2.2.2.2.2.2.2.2.2.2.1
theorem kESR_93 {G : kGt} {sa : Nat → Nat} {so : kSo} (h : kESR G sa so) {A : Nat → Prop} {s : State} {H : Heap} (g : G A s H) : vk_R "KnowHouseModel" 206 "rules " (sa 397) s := (h A s H g).2.2.2.2.2.2.2.2.2.2.2.2.2.2.2.2.2.2.2.2.2.2.2.2.2.2.2.2.2.2.2.2.2.2.2.2.2.2.2.2.2.2.2.2.2.2.2.2.2.2.2.2.2.2.2.2.2.2.2.2.2.2.2.2.2.2.2.2.2.2.2.2.2.2.2.2.2.2.2.2.2.2.2.2.2.2.2.2.2.2.2.2.2.1
theorem kESR_94 {G : kGt} {sa : Nat → Nat} {so : kSo} (h : kESR G sa so) {A : Nat → Prop} {s : State} {H : Heap} (g : G A s H) : vk_R "KnowHouseModel" 208 "class0 " (sa 398) s := (h A s H g).2.2.2.2.2.2.2.2.2.2.2.2.2.2.2.2.2.2.2.2.2.2.2.2.2.2.2.2.2.2.2.2.2.2.2.2.2.2.2.2.2.2.2.2.2.2.2.2.2.2.2.2.2.2.2.2.2.2.2.2.2.2.2.2.2.2.2.2.2.2.2.2.2.2.2.2.2.2.2.2.2.2.2.2.2.2.2.2.2.2.2.2.2.2.1
theorem kESR_95 {G : kGt} {sa : Nat → Nat} {so : kSo} (h : kESR G sa so) {A : Nat → Prop} {s : State} {H : Heap} (g : G A s H) : vk_R "KnowHouseModel" 210 "thing " (sa 399) s := (h A s H g).2.2.2.2.2.2.2.2.2.2.2.2.2.2.2.2.2.2.2.2.2.2.2.2.2.2.2.2.2.2.2.2.2.2.2.2.2.2.2.2.2.2.2.2.2.2.2.2.2.2.2.2.2.2.2.2.2.2.2.2.2.2.2.2.2.2.2.2.2.2.2.2.2.2.2.2.2.2.2.2.2.2.2.2.2.2.2.2.2.2.2.2.2.2.2.1
theorem kESR_96 {G : kGt} {sa : Nat → Nat} {so : kSo} (h : kESR G sa so) {A : Nat → Prop} {s : State} {H : Heap} (g : G A s H) : vk_R "KnowHouseModel" 212 "remove i" (sa 400) s := (h A s H g).2.2.2.2.2.2.2.2.2.2.2.2.2.2.2.2.2.2.2.2.2.2.2.2.2.2.2.2.2.2.2.2.2.2.2.2.2.2.2.2.2.2.2.2.2.2.2.2.2.2.2.2.2.2.2.2.2.2.2.2.2.2.2.2.2.2.2.2.2.2.2.2.2.2.2.2.2.2.2.2.2.2.2.2.2.2.2.2.2.2.2.2.2.2.2.2.1
theorem kESR_97 {G : kGt} {sa : Nat → Nat} {so : kSo} (h : kESR G sa so) {A : Nat → Prop} {s : State} {H : Heap} (g : G A s H) : vk_R "KnowHouseModel" 214 "fuel i" (sa 401) s := (h A s H g).2.2.2.2.2.2.2.2.2.2.2.2.2.2.2.2.2.2.2.2.2.2.2.2.2.2.2.2.2.2.2.2.2.2.2.2.2.2.2.2.2.2.2.2.2.2.2.2.2.2.2.2.2.2.2.2.2.2.2.2.2.2.2.2.2.2.2.2.2.2.2.2.2.2.2.2.2.2.2.2.2.2.2.2.2.2.2.2.2.2.2.2.2.2.2.2.2.1
theorem kESR_98 {G : kGt} {sa : Nat → Nat} {so : kSo} (h : kESR G sa so) {A : Nat → Prop} {s : State} {H : Heap} (g : G A s H) : vk_R "KnowHouseModel" 216 "known ii" (sa 402) s := (h A s H g).2.2.2.2.2.2.2.2.2.2.2.2.2.2.2.2.2.2.2.2.2.2.2.2.2.2.2.2.2.2.2.2.2.2.2.2.2.2.2.2.2.2.2.2.2.2.2.2.2.2.2.2.2.2.2.2.2.2.2.2.2.2.2.2.2.2.2.2.2.2.2.2.2.2.2.2.2.2.2.2.2.2.2.2.2.2.2.2.2.2.2.2.2.2.2.2.2.2.1
theorem kESR_99 {G : kGt} {sa : Nat → Nat} {so : kSo} (h : kESR G sa so) {A : Nat → Prop} {s : State} {H : Heap} (g : G A s H) : vk_R "KnowHouseModel" 218 "run " (sa 403) s := (h A s H g).2.2.2.2.2.2.2.2.2.2.2.2.2.2.2.2.2.2.2.2.2.2.2.2.2.2.2.2.2.2.2.2.2.2.2.2.2.2.2.2.2.2.2.2.2.2.2.2.2.2.2.2.2.2.2.2.2.2.2.2.2.2.2.2.2.2.2.2.2.2.2.2.2.2.2.2.2.2.2.2.2.2.2.2.2.2.2.2.2.2.2.2.2.2.2.2.2.2.2.1
theorem kESR_100 {G : kGt} {sa : Nat → Nat} {so : kSo} (h : kESR G sa so) {A : Nat → Prop} {s : State} {H : Heap} (g : G A s H) : vk_R "KnowHouseModel" 220 "parent ii" (sa 404) s := (h A s H g).2.2.2.2.2.2.2.2.2.2.2.2.2.2.2.2.2.2.2.2.2.2.2.2.2.2.2.2.2.2.2.2.2.2.2.2.2.2.2.2.2.2.2.2.2.2.2.2.2.2.2.2.2.2.2.2.2.2.2.2.2.2.2.2.2.2.2.2.2.2.2.2.2.2.2.2.2.2.2.2.2.2.2.2.2.2.2.2.2.2.2.2.2.2.2.2.2.2.2.2.1
theorem kESR_101 {G : kGt} {sa : Nat → Nat} {so : kSo} (h : kESR G sa so) {A : Nat → Prop} {s : State} {H : Heap} (g : G A s H) : vk_R "KnowHouseModel" 222 "child ii" (sa 405) s := (h A s H g).2.2.2.2.2.2.2.2.2.2.2.2.2.2.2.2.2.2.2.2.2.2.2.2.2.2.2.2.2.2.2.2.2.2.2.2.2.2.2.2.2.2.2.2.2.2.2.2.2.2.2.2.2.2.2.2.2.2.2.2.2.2.2.2.2.2.2.2.2.2.2.2.2.2.2.2.2.2.2.2.2.2.2.2.2.2.2.2.2.2.2.2.2.2.2.2.2.2.2.2.2.1
theorem kESR_102 {G : kGt} {sa : Nat → Nat} {so : kSo} (h : kESR G sa so) {A : Nat → Prop} {s : State} {H : Heap} (g : G A s H) : vk_R "KnowHouseModel" 224 "equal ii" (sa 406) s := (h A s H g).2.2.2.2.2.2.2.2.2.2.2.2.2.2.2.2.2.2.2.2.2.2.2.2.2.2.2.2.2.2.2.2.2.2.2.2.2.2.2.2.2.2.2.2.2.2.2.2.2.2.2.2.2.2.2.2.2.2.2.2.2.2.2.2.2.2.2.2.2.2.2.2.2.2.2.2.2.2.2.2.2.2.2.2.2.2.2.2.2.2.2.2.2.2.2.2.2.2.2.2.2.2.1
theorem kESR_103 {G : kGt} {sa : Nat → Nat} {so : kSo} (h : kESR G sa so) {A : Nat → Prop} {s : State} {H : Heap} (g : G A s H) : vk_R "KnowHouseModel" 226 "empty i" (sa 407) s := (h A s H g).2.2.2.2.2.2.2.2.2.2.2.2.2.2.2.2.2.2.2.2.2.2.2.2.2.2.2.2.2.2.2.2.2.2.2.2.2.2.2.2.2.2.2.2.2.2.2.2.2.2.2.2.2.2.2.2.2.2.2.2.2.2.2.2.2.2.2.2.2.2.2.2.2.2.2.2.2.2.2.2.2.2.2.2.2.2.2.2.2.2.2.2.2.2.2.2.2.2.2.2.2.2.2.1
theorem kESR_104 {G : kGt} {sa : Nat → Nat} {so : kSo} (h : kESR G sa so) {A : Nat → Prop} {s : State} {H : Heap} (g : G A s H) : vk_R "KnowHouseModel" 228 "open i" (sa 408) s := (h A s H g).2.2.2.2.2.2.2.2.2.2.2.2.2.2.2.2.2.2.2.2.2.2.2.2.2.2.2.2.2.2.2.2.2.2.2.2.2.2.2.2.2.2.2.2.2.2.2.2.2.2.2.2.2.2.2.2.2.2.2.2.2.2.2.2.2.2.2.2.2.2.2.2.2.2.2.2.2.2.2.2.2.2.2.2.2.2.2.2.2.2.2.2.2.2.2.2.2.2.2.2.2.2.2.2.1
theorem kESR_105 {G : kGt} {sa : Nat → Nat} {so : kSo} (h : kESR G sa so) {A : Nat → Prop} {s : State} {H : Heap} (g : G A s H) : vk_R "KnowHouseModel" 230 "put ii" (sa 409) s := (h A s H g).2.2.2.2.2.2.2.2.2.2.2.2.2.2.2.2.2.2.2.2.2.2.2.2.2.2.2.2.2.2.2.2.2.2.2.2.2.2.2.2.2.2.2.2.2.2.2.2.2.2.2.2.2.2.2.2.2.2.2.2.2.2.2.2.2.2.2.2.2.2.2.2.2.2.2.2.2.2.2.2.2.2.2.2.2.2.2.2.2.2.2.2.2.2.2.2.2.2.2.2.2.2.2.2.2.1
theorem kESR_106 {G : kGt} {sa : Nat → Nat} {so : kSo} (h : kESR G sa so) {A : Nat → Prop} {s : State} {H : Heap} (g : G A s H) : vk_R "KnowHouseModel" 232 "type ii" (sa 410) s := (h A s H g).2.2.2.2.2.2.2.2.2.2.2.2.2.2.2.2.2.2.2.2.2.2.2.2.2.2.2.2.2.2.2.2.2.2.2.2.2.2.2.2.2.2.2.2.2.2.2.2.2.2.2.2.2.2.2.2.2.2.2.2.2.2.2.2.2.2.2.2.2.2.2.2.2.2.2.2.2.2.2.2.2.2.2.2.2.2.2.2.2.2.2.2.2.2.2.2.2.2.2.2.2.2.2.2.2.2.1
theorem kESR_107 {G : kGt} {sa : Nat → Nat} {so : kSo} (h : kESR G sa so) {A : Nat → Prop} {s : State} {H : Heap} (g : G A s H) : vk_R "KnowHouseModel" 234 "trace iii" (sa 411) s := (h A s H g).2.2.2.2.2.2.2.2.2.2.2.2.2.2.2.2.2.2.2.2.2.2.2.2.2.2.2.2.2.2.2.2.2.2.2.2.2.2.2.2.2.2.2.2.2.2.2.2.2.2.2.2.2.2.2.2.2.2.2.2.2.2.2.2.2.2.2.2.2.2.2.2.2.2.2.2.2.2.2.2.2.2.2.2.2.2.2.2.2.2.2.2.2.2.2.2.2.2.2.2.2.2.2.2.2.2.2.1
theorem kESR_108 {G : kGt} {sa : Nat → Nat} {so : kSo} (h : kESR G sa so) {A : Nat → Prop} {s : State} {H : Heap} (g : G A s H) : vk_R "KnowHouseModel" 236 "count i" (sa 412) s := (h A s H g).2.2.2.2.2.2.2.2.2.2.2.2.2.2.2.2.2.2.2.2.2.2.2.2.2.2.2.2.2.2.2.2.2.2.2.2.2.2.2.2.2.2.2.2.2.2.2.2.2.2.2.2.2.2.2.2.2.2.2.2.2.2.2.2.2.2.2.2.2.2.2.2.2.2.2.2.2.2.2.2.2.2.2.2.2.2.2.2.2.2.2.2.2.2.2.2.2.2.2.2.2.2.2.2.2.2.2.2.1
theorem kESR_109 {G : kGt} {sa : Nat → Nat} {so : kSo} (h : kESR G sa so) {A : Nat → Prop} {s : State} {H : Heap} (g : G A s H) : vk_R "KnowHouseModel" 238 "above ii" (sa 413) s := (h A s H g).2.2.2.2.2.2.2.2.2.2.2.2.2.2.2.2.2.2.2.2.2.2.2.2.2.2.2.2.2.2.2.2.2.2.2.2.2.2.2.2.2.2.2.2.2.2.2.2.2.2.2.2.2.2.2.2.2.2.2.2.2.2.2.2.2.2.2.2.2.2.2.2.2.2.2.2.2.2.2.2.2.2.2.2.2.2.2.2.2.2.2.2.2.2.2.2.2.2.2.2.2.2.2.2.2.2.2.2.2.1
theorem kESR_110 {G : kGt} {sa : Nat → Nat} {so : kSo} (h : kESR G sa so) {A : Nat → Prop} {s : State} {H : Heap} (g : G A s H) : vk_R "KnowHouseModel" 240 "choose iib" (sa 414) s := (h A s H g).2.2.2.2.2.2.2.2.2.2.2.2.2.2.2.2.2.2.2.2.2.2.2.2.2.2.2.2.2.2.2.2.2.2.2.2.2.2.2.2.2.2.2.2.2.2.2.2.2.2.2.2.2.2.2.2.2.2.2.2.2.2.2.2.2.2.2.2.2.2.2.2.2.2.2.2.2.2.2.2.2.2.2.2.2.2.2.2.2.2.2.2.2.2.2.2.2.2.2.2.2.2.2.2.2.2.2.2.2.2.1
theorem kESR_111 {G : kGt} {sa : Nat → Nat} {so : kSo} (h : kESR G sa so) {A : Nat → Prop} {s : State} {H : Heap} (g : G A s H) : vk_R "KnowHouseModel" 242 "kept " (sa 415) s := (h A s H g).2.2.2.2.2.2.2.2.2.2.2.2.2.2.2.2.2.2.2.2.2.2.2.2.2.2.2.2.2.2.2.2.2.2.2.2.2.2.2.2.2.2.2.2.2.2.2.2.2.2.2.2.2.2.2.2.2.2.2.2.2.2.2.2.2.2.2.2.2.2.2.2.2.2.2.2.2.2.2.2.2.2.2.2.2.2.2.2.2.2.2.2.2.2.2.2.2.2.2.2.2.2.2.2.2.2.2.2.2.2.2.1
theorem kESR_112 {G : kGt} {sa : Nat → Nat} {so : kSo} (h : kESR G sa so) {A : Nat → Prop} {s : State} {H : Heap} (g : G A s H) : vk_R "KnowHouseModel" 244 "isKept i" (sa 416) s := (h A s H g).2.2.2.2.2.2.2.2.2.2.2.2.2.2.2.2.2.2.2.2.2.2.2.2.2.2.2.2.2.2.2.2.2.2.2.2.2.2.2.2.2.2.2.2.2.2.2.2.2.2.2.2.2.2.2.2.2.2.2.2.2.2.2.2.2.2.2.2.2.2.2.2.2.2.2.2.2.2.2.2.2.2.2.2.2.2.2.2.2.2.2.2.2.2.2.2.2.2.2.2.2.2.2.2.2.2.2.2.2.2.2.2.1
theorem kESR_113 {G : kGt} {sa : Nat → Nat} {so : kSo} (h : kESR G sa so) {A : Nat → Prop} {s : State} {H : Heap} (g : G A s H) : vk_R "KnowHouseModel" 246 "facet ii" (sa 417) s := (h A s H g).2.2.2.2.2.2.2.2.2.2.2.2.2.2.2.2.2.2.2.2.2.2.2.2.2.2.2.2.2.2.2.2.2.2.2.2.2.2.2.2.2.2.2.2.2.2.2.2.2.2.2.2.2.2.2.2.2.2.2.2.2.2.2.2.2.2.2.2.2.2.2.2.2.2.2.2.2.2.2.2.2.2.2.2.2.2.2.2.2.2.2.2.2.2.2.2.2.2.2.2.2.2.2.2.2.2.2.2.2.2.2.2.2.1
theorem kESR_114 {G : kGt} {sa : Nat → Nat} {so : kSo} (h : kESR G sa so) {A : Nat → Prop} {s : State} {H : Heap} (g : G A s H) : vk_R "KnowHouseModel" 248 "top ii" (sa 418) s := (h A s H g).2.2.2.2.2.2.2.2.2.2.2.2.2.2.2.2.2.2.2.2.2.2.2.2.2.2.2.2.2.2.2.2.2.2.2.2.2.2.2.2.2.2.2.2.2.2.2.2.2.2.2.2.2.2.2.2.2.2.2.2.2.2.2.2.2.2.2.2.2.2.2.2.2.2.2.2.2.2.2.2.2.2.2.2.2.2.2.2.2.2.2.2.2.2.2.2.2.2.2.2.2.2.2.2.2.2.2.2.2.2.2.2.2.2.1
theorem kESR_115 {G : kGt} {sa : Nat → Nat} {so : kSo} (h : kESR G sa so) {A : Nat → Prop} {s : State} {H : Heap} (g : G A s H) : vk_R "KnowHouseModel" 250 "range iii" (sa 419) s := (h A s H g).2.2.2.2.2.2.2.2.2.2.2.2.2.2.2.2.2.2.2.2.2.2.2.2.2.2.2.2.2.2.2.2.2.2.2.2.2.2.2.2.2.2.2.2.2.2.2.2.2.2.2.2.2.2.2.2.2.2.2.2.2.2.2.2.2.2.2.2.2.2.2.2.2.2.2.2.2.2.2.2.2.2.2.2.2.2.2.2.2.2.2.2.2.2.2.2.2.2.2.2.2.2.2.2.2.2.2.2.2.2.2.2.2.2.2.1
theorem kESR_116 {G : kGt} {sa : Nat → Nat} {so : kSo} (h : kESR G sa so) {A : Nat → Prop} {s : State} {H : Heap} (g : G A s H) : vk_R "KnowHouseModel" 252 "sum iii" (sa 420) s := (h A s H g).2.2.2.2.2.2.2.2.2.2.2.2.2.2.2.2.2.2.2.2.2.2.2.2.2.2.2.2.2.2.2.2.2.2.2.2.2.2.2.2.2.2.2.2.2.2.2.2.2.2.2.2.2.2.2.2.2.2.2.2.2.2.2.2.2.2.2.2.2.2.2.2.2.2.2.2.2.2.2.2.2.2.2.2.2.2.2.2.2.2.2.2.2.2.2.2.2.2.2.2.2.2.2.2.2.2.2.2.2.2.2.2.2.2.2.2.1
theorem kESR_117 {G : kGt} {sa : Nat → Nat} {so : kSo} (h : kESR G sa so) {A : Nat → Prop} {s : State} {H : Heap} (g : G A s H) : vk_R "KnowHouseModel" 254 "changed " (sa 421) s := (h A s H g).2.2.2.2.2.2.2.2.2.2.2.2.2.2.2.2.2.2.2.2.2.2.2.2.2.2.2.2.2.2.2.2.2.2.2.2.2.2.2.2.2.2.2.2.2.2.2.2.2.2.2.2.2.2.2.2.2.2.2.2.2.2.2.2.2.2.2.2.2.2.2.2.2.2.2.2.2.2.2.2.2.2.2.2.2.2.2.2.2.2.2.2.2.2.2.2.2.2.2.2.2.2.2.2.2.2.2.2.2.2.2.2.2.2.2.2.2.1
theorem kESR_118 {G : kGt} {sa : Nat → Nat} {so : kSo} (h : kESR G sa so) {A : Nat → Prop} {s : State} {H : Heap} (g : G A s H) : vk_R "KnowHouseModel" 256 "key iib" (sa 422) s := (h A s H g).2.2.2.2.2.2.2.2.2.2.2.2.2.2.2.2.2.2.2.2.2.2.2.2.2.2.2.2.2.2.2.2.2.2.2.2.2.2.2.2.2.2.2.2.2.2.2.2.2.2.2.2.2.2.2.2.2.2.2.2.2.2.2.2.2.2.2.2.2.2.2.2.2.2.2.2.2.2.2.2.2.2.2.2.2.2.2.2.2.2.2.2.2.2.2.2.2.2.2.2.2.2.2.2.2.2.2.2.2.2.2.2.2.2.2.2.2.2.1
theorem kESR_119 {G : kGt} {sa : Nat → Nat} {so : kSo} (h : kESR G sa so) {A : Nat → Prop} {s : State} {H : Heap} (g : G A s H) : vk_R "KnowHouseModel" 258 "row iiii" (sa 423) s := (h A s H g).2.2.2.2.2.2.2.2.2.2.2.2.2.2.2.2.2.2.2.2.2.2.2.2.2.2.2.2.2.2.2.2.2.2.2.2.2.2.2.2.2.2.2.2.2.2.2.2.2.2.2.2.2.2.2.2.2.2.2.2.2.2.2.2.2.2.2.2.2.2.2.2.2.2.2.2.2.2.2.2.2.2.2.2.2.2.2.2.2.2.2.2.2.2.2.2.2.2.2.2.2.2.2.2.2.2.2.2.2.2.2.2.2.2.2.2.2.2.2.1
theorem kESR_120 {G : kGt} {sa : Nat → Nat} {so : kSo} (h : kESR G sa so) {A : Nat → Prop} {s : State} {H : Heap} (g : G A s H) : vk_R "KnowHouseModel" 260 "drop ii" (sa 424) s := (h A s H g).2.2.2.2.2.2.2.2.2.2.2.2.2.2.2.2.2.2.2.2.2.2.2.2.2.2.2.2.2.2.2.2.2.2.2.2.2.2.2.2.2.2.2.2.2.2.2.2.2.2.2.2.2.2.2.2.2.2.2.2.2.2.2.2.2.2.2.2.2.2.2.2.2.2.2.2.2.2.2.2.2.2.2.2.2.2.2.2.2.2.2.2.2.2.2.2.2.2.2.2.2.2.2.2.2.2.2.2.2.2.2.2.2.2.2.2.2.2.2.2.1
theorem kESR_121 {G : kGt} {sa : Nat → Nat} {so : kSo} (h : kESR G sa so) {A : Nat → Prop} {s : State} {H : Heap} (g : G A s H) : vk_R "KnowHouseModel" 262 "mapping iiiiii" (sa 425) s := (h A s H g).2.2.2.2.2.2.2.2.2.2.2.2.2.2.2.2.2.2.2.2.2.2.2.2.2.2.2.2.2.2.2.2.2.2.2.2.2.2.2.2.2.2.2.2.2.2.2.2.2.2.2.2.2.2.2.2.2.2.2.2.2.2.2.2.2.2.2.2.2.2.2.2.2.2.2.2.2.2.2.2.2.2.2.2.2.2.2.2.2.2.2.2.2.2.2.2.2.2.2.2.2.2.2.2.2.2.2.2.2.2.2.2.2.2.2.2.2.2.2.2.2.1
theorem kESR_122 {G : kGt} {sa : Nat → Nat} {so : kSo} (h : kESR G sa so) {A : Nat → Prop} {s : State} {H : Heap} (g : G A s H) : vk_R "KnowHouseModel" 264 "atom iii" (sa 426) s := (h A s H g).2.2.2.2.2.2.2.2.2.2.2.2.2.2.2.2.2.2.2.2.2.2.2.2.2.2.2.2.2.2.2.2.2.2.2.2.2.2.2.2.2.2.2.2.2.2.2.2.2.2.2.2.2.2.2.2.2.2.2.2.2.2.2.2.2.2.2.2.2.2.2.2.2.2.2.2.2.2.2.2.2.2.2.2.2.2.2.2.2.2.2.2.2.2.2.2.2.2.2.2.2.2.2.2.2.2.2.2.2.2.2.2.2.2.2.2.2.2.2.2.2.2.1
theorem kESR_123 {G : kGt} {sa : Nat → Nat} {so : kSo} (h : kESR G sa so) {A : Nat → Prop} {s : State} {H : Heap} (g : G A s H) : vk_R "KnowHouseModel" 266 "span iii" (sa 427) s := (h A s H g).2.2.2.2.2.2.2.2.2.2.2.2.2.2.2.2.2.2.2.2.2.2.2.2.2.2.2.2.2.2.2.2.2.2.2.2.2.2.2.2.2.2.2.2.2.2.2.2.2.2.2.2.2.2.2.2.2.2.2.2.2.2.2.2.2.2.2.2.2.2.2.2.2.2.2.2.2.2.2.2.2.2.2.2.2.2.2.2.2.2.2.2.2.2.2.2.2.2.2.2.2.2.2.2.2.2.2.2.2.2.2.2.2.2.2.2.2.2.2.2.2.2.2.1
theorem kESR_124 {G : kGt} {sa : Nat → Nat} {so : kSo} (h : kESR G sa so) {A : Nat → Prop} {s : State} {H : Heap} (g : G A s H) : vk_R "KnowHouseModel" 268 "clear " (sa 428) s := (h A s H g).2.2.2.2.2.2.2.2.2.2.2.2.2.2.2.2.2.2.2.2.2.2.2.2.2.2.2.2.2.2.2.2.2.2.2.2.2.2.2.2.2.2.2.2.2.2.2.2.2.2.2.2.2.2.2.2.2.2.2.2.2.2.2.2.2.2.2.2.2.2.2.2.2.2.2.2.2.2.2.2.2.2.2.2.2.2.2.2.2.2.2.2.2.2.2.2.2.2.2.2.2.2.2.2.2.2.2.2.2.2.2.2.2.2.2.2.2.2.2.2.2.2.2.2.1
theorem kESR_125 {G : kGt} {sa : Nat → Nat} {so : kSo} (h : kESR G sa so) {A : Nat → Prop} {s : State} {H : Heap} (g : G A s H) : vk_R "KnowHouseModel" 270 "unions " (sa 429) s := (h A s H g).2.2.2.2.2.2.2.2.2.2.2.2.2.2.2.2.2.2.2.2.2.2.2.2.2.2.2.2.2.2.2.2.2.2.2.2.2.2.2.2.2.2.2.2.2.2.2.2.2.2.2.2.2.2.2.2.2.2.2.2.2.2.2.2.2.2.2.2.2.2.2.2.2.2.2.2.2.2.2.2.2.2.2.2.2.2.2.2.2.2.2.2.2.2.2.2.2.2.2.2.2.2.2.2.2.2.2.2.2.2.2.2.2.2.2.2.2.2.2.2.2.2.2.2.2.1
theorem kESR_126 {G : kGt} {sa : Nat → Nat} {so : kSo} (h : kESR G sa so) {A : Nat → Prop} {s : State} {H : Heap} (g : G A s H) : vk_R "KnowHouseModel" 272 "union ii" (sa 430) s := (h A s H g).2.2.2.2.2.2.2.2.2.2.2.2.2.2.2.2.2.2.2.2.2.2.2.2.2.2.2.2.2.2.2.2.2.2.2.2.2.2.2.2.2.2.2.2.2.2.2.2.2.2.2.2.2.2.2.2.2.2.2.2.2.2.2.2.2.2.2.2.2.2.2.2.2.2.2.2.2.2.2.2.2.2.2.2.2.2.2.2.2.2.2.2.2.2.2.2.2.2.2.2.2.2.2.2.2.2.2.2.2.2.2.2.2.2.2.2.2.2.2.2.2.2.2.2.2.2.1
theorem kESR_127 {G : kGt} {sa : Nat → Nat} {so : kSo} (h : kESR G sa so) {A : Nat → Prop} {s : State} {H : Heap} (g : G A s H) : vk_R "KnowHouseModel" 274 "estimate i" (sa 431) s := (h A s H g).2.2.2.2.2.2.2.2.2.2.2.2.2.2.2.2.2.2.2.2.2.2.2.2.2.2.2.2.2.2.2.2.2.2.2.2.2.2.2.2.2.2.2.2.2.2.2.2.2.2.2.2.2.2.2.2.2.2.2.2.2.2.2.2.2.2.2.2.2.2.2.2.2.2.2.2.2.2.2.2.2.2.2.2.2.2.2.2.2.2.2.2.2.2.2.2.2.2.2.2.2.2.2.2.2.2.2.2.2.2.2.2.2.2.2.2.2.2.2.2.2.2.2.2.2.2.2.1
theorem kESR_128 {G : kGt} {sa : Nat → Nat} {so : kSo} (h : kESR G sa so) {A : Nat → Prop} {s : State} {H : Heap} (g : G A s H) : vk_R "KnowHouseModel" 276 "value ii" (sa 432) s := (h A s H g).2.2.2.2.2.2.2.2.2.2.2.2.2.2.2.2.2.2.2.2.2.2.2.2.2.2.2.2.2.2.2.2.2.2.2.2.2.2.2.2.2.2.2.2.2.2.2.2.2.2.2.2.2.2.2.2.2.2.2.2.2.2.2.2.2.2.2.2.2.2.2.2.2.2.2.2.2.2.2.2.2.2.2.2.2.2.2.2.2.2.2.2.2.2.2.2.2.2.2.2.2.2.2.2.2.2.2.2.2.2.2.2.2.2.2.2.2.2.2.2.2.2.2.2.2.2.2.2.1
theorem kESR_129 {G : kGt} {sa : Nat → Nat} {so : kSo} (h : kESR G sa so) {A : Nat → Prop} {s : State} {H : Heap} (g : G A s H) : vk_R "KnowHouseModel" 278 "found ii" (sa 433) s := (h A s H g).2.2.2.2.2.2.2.2.2.2.2.2.2.2.2.2.2.2.2.2.2.2.2.2.2.2.2.2.2.2.2.2.2.2.2.2.2.2.2.2.2.2.2.2.2.2.2.2.2.2.2.2.2.2.2.2.2.2.2.2.2.2.2.2.2.2.2.2.2.2.2.2.2.2.2.2.2.2.2.2.2.2.2.2.2.2.2.2.2.2.2.2.2.2.2.2.2.2.2.2.2.2.2.2.2.2.2.2.2.2.2.2.2.2.2.2.2.2.2.2.2.2.2.2.2.2.2.2.2.1
theorem kESR_130 {G : kGt} {sa : Nat → Nat} {so : kSo} (h : kESR G sa so) {A : Nat → Prop} {s : State} {H : Heap} (g : G A s H) : vk_R "KnowHouseModel" 280 "fact iii" (sa 434) s := (h A s H g).2.2.2.2.2.2.2.2.2.2.2.2.2.2.2.2.2.2.2.2.2.2.2.2.2.2.2.2.2.2.2.2.2.2.2.2.2.2.2.2.2.2.2.2.2.2.2.2.2.2.2.2.2.2.2.2.2.2.2.2.2.2.2.2.2.2.2.2.2.2.2.2.2.2.2.2.2.2.2.2.2.2.2.2.2.2.2.2.2.2.2.2.2.2.2.2.2.2.2.2.2.2.2.2.2.2.2.2.2.2.2.2.2.2.2.2.2.2.2.2.2.2.2.2.2.2.2.2.2.2.1
theorem kESR_131 {G : kGt} {sa : Nat → Nat} {so : kSo} (h : kESR G sa so) {A : Nat → Prop} {s : State} {H : Heap} (g : G A s H) : vk_R "KnowHouseModel" 282 "remove iii" (sa 435) s := (h A s H g).2.2.2.2.2.2.2.2.2.2.2.2.2.2.2.2.2.2.2.2.2.2.2.2.2.2.2.2.2.2.2.2.2.2.2.2.2.2.2.2.2.2.2.2.2.2.2.2.2.2.2.2.2.2.2.2.2.2.2.2.2.2.2.2.2.2.2.2.2.2.2.2.2.2.2.2.2.2.2.2.2.2.2.2.2.2.2.2.2.2.2.2.2.2.2.2.2.2.2.2.2.2.2.2.2.2.2.2.2.2.2.2.2.2.2.2.2.2.2.2.2.2.2.2.2.2.2.2.2.2.2.1
theorem kESR_132 {G : kGt} {sa : Nat → Nat} {so : kSo} (h : kESR G sa so) {A : Nat → Prop} {s : State} {H : Heap} (g : G A s H) : vk_R "KnowHouseModel" 284 "rule iii" (sa 436) s := (h A s H g).2.2.2.2.2.2.2.2.2.2.2.2.2.2.2.2.2.2.2.2.2.2.2.2.2.2.2.2.2.2.2.2.2.2.2.2.2.2.2.2.2.2.2.2.2.2.2.2.2.2.2.2.2.2.2.2.2.2.2.2.2.2.2.2.2.2.2.2.2.2.2.2.2.2.2.2.2.2.2.2.2.2.2.2.2.2.2.2.2.2.2.2.2.2.2.2.2.2.2.2.2.2.2.2.2.2.2.2.2.2.2.2.2.2.2.2.2.2.2.2.2.2.2.2.2.2.2.2.2.2.2.2.1
theorem kESR_133 {G : kGt} {sa : Nat → Nat} {so : kSo} (h : kESR G sa so) {A : Nat → Prop} {s : State} {H : Heap} (g : G A s H) : vk_R "KnowHouseModel" 286 "body iiiib" (sa 437) s := (h A s H g).2.2.2.2.2.2.2.2.2.2.2.2.2.2.2.2.2.2.2.2.2.2.2.2.2.2.2.2.2.2.2.2.2.2.2.2.2.2.2.2.2.2.2.2.2.2.2.2.2.2.2.2.2.2.2.2.2.2.2.2.2.2.2.2.2.2.2.2.2.2.2.2.2.2.2.2.2.2.2.2.2.2.2.2.2.2.2.2.2.2.2.2.2.2.2.2.2.2.2.2.2.2.2.2.2.2.2.2.2.2.2.2.2.2.2.2.2.2.2.2.2.2.2.2.2.2.2.2.2.2.2.2.2.1
theorem kESR_134 {G : kGt} {sa : Nat → Nat} {so : kSo} (h : kESR G sa so) {A : Nat → Prop} {s : State} {H : Heap} (g : G A s H) : vk_R "KnowHouseModel" 288 "filter iiii" (sa 438) s := (h A s H g).2.2.2.2.2.2.2.2.2.2.2.2.2.2.2.2.2.2.2.2.2.2.2.2.2.2.2.2.2.2.2.2.2.2.2.2.2.2.2.2.2.2.2.2.2.2.2.2.2.2.2.2.2.2.2.2.2.2.2.2.2.2.2.2.2.2.2.2.2.2.2.2.2.2.2.2.2.2.2.2.2.2.2.2.2.2.2.2.2.2.2.2.2.2.2.2.2.2.2.2.2.2.2.2.2.2.2.2.2.2.2.2.2.2.2.2.2.2.2.2.2.2.2.2.2.2.2.2.2.2.2.2.2.2.1
theorem kESR_135 {G : kGt} {sa : Nat → Nat} {so : kSo} (h : kESR G sa so) {A : Nat → Prop} {s : State} {H : Heap} (g : G A s H) : vk_R "KnowHouseModel" 290 "aggregate iii" (sa 439) s := (h A s H g).2.2.2.2.2.2.2.2.2.2.2.2.2.2.2.2.2.2.2.2.2.2.2.2.2.2.2.2.2.2.2.2.2.2.2.2.2.2.2.2.2.2.2.2.2.2.2.2.2.2.2.2.2.2.2.2.2.2.2.2.2.2.2.2.2.2.2.2.2.2.2.2.2.2.2.2.2.2.2.2.2.2.2.2.2.2.2.2.2.2.2.2.2.2.2.2.2.2.2.2.2.2.2.2.2.2.2.2.2.2.2.2.2.2.2.2.2.2.2.2.2.2.2.2.2.2.2.2.2.2.2.2.2.2.2.1
theorem kESR_136 {G : kGt} {sa : Nat → Nat} {so : kSo} (h : kESR G sa so) {A : Nat → Prop} {s : State} {H : Heap} (g : G A s H) : vk_R "KnowHouseModel" 292 "safe i" (sa 440) s := (h A s H g).2.2.2.2.2.2.2.2.2.2.2.2.2.2.2.2.2.2.2.2.2.2.2.2.2.2.2.2.2.2.2.2.2.2.2.2.2.2.2.2.2.2.2.2.2.2.2.2.2.2.2.2.2.2.2.2.2.2.2.2.2.2.2.2.2.2.2.2.2.2.2.2.2.2.2.2.2.2.2.2.2.2.2.2.2.2.2.2.2.2.2.2.2.2.2.2.2.2.2.2.2.2.2.2.2.2.2.2.2.2.2.2.2.2.2.2.2.2.2.2.2.2.2.2.2.2.2.2.2.2.2.2.2.2.2.2.1
theorem kESR_137 {G : kGt} {sa : Nat → Nat} {so : kSo} (h : kESR G sa so) {A : Nat → Prop} {s : State} {H : Heap} (g : G A s H) : vk_R "KnowHouseModel" 294 "stratum i" (sa 441) s := (h A s H g).2.2.2.2.2.2.2.2.2.2.2.2.2.2.2.2.2.2.2.2.2.2.2.2.2.2.2.2.2.2.2.2.2.2.2.2.2.2.2.2.2.2.2.2.2.2.2.2.2.2.2.2.2.2.2.2.2.2.2.2.2.2.2.2.2.2.2.2.2.2.2.2.2.2.2.2.2.2.2.2.2.2.2.2.2.2.2.2.2.2.2.2.2.2.2.2.2.2.2.2.2.2.2.2.2.2.2.2.2.2.2.2.2.2.2.2.2.2.2.2.2.2.2.2.2.2.2.2.2.2.2.2.2.2.2.2.2.1
theorem kESR_138 {G : kGt} {sa : Nat → Nat} {so : kSo} (h : kESR G sa so) {A : Nat → Prop} {s : State} {H : Heap} (g : G A s H) : vk_R "KnowHouseModel" 296 "holds iii" (sa 442) s := (h A s H g).2.2.2.2.2.2.2.2.2.2.2.2.2.2.2.2.2.2.2.2.2.2.2.2.2.2.2.2.2.2.2.2.2.2.2.2.2.2.2.2.2.2.2.2.2.2.2.2.2.2.2.2.2.2.2.2.2.2.2.2.2.2.2.2.2.2.2.2.2.2.2.2.2.2.2.2.2.2.2.2.2.2.2.2.2.2.2.2.2.2.2.2.2.2.2.2.2.2.2.2.2.2.2.2.2.2.2.2.2.2.2.2.2.2.2.2.2.2.2.2.2.2.2.2.2.2.2.2.2.2.2.2.2.2.2.2.2.2.1
theorem kESR_139 {G : kGt} {sa : Nat → Nat} {so : kSo} (h : kESR G sa so) {A : Nat → Prop} {s : State} {H : Heap} (g : G A s H) : vk_R "KnowHouseModel" 298 "round iii" (sa 443) s := (h A s H g).2.2.2.2.2.2.2.2.2.2.2.2.2.2.2.2.2.2.2.2.2.2.2.2.2.2.2.2.2.2.2.2.2.2.2.2.2.2.2.2.2.2.2.2.2.2.2.2.2.2.2.2.2.2.2.2.2.2.2.2.2.2.2.2.2.2.2.2.2.2.2.2.2.2.2.2.2.2.2.2.2.2.2.2.2.2.2.2.2.2.2.2.2.2.2.2.2.2.2.2.2.2.2.2.2.2.2.2.2.2.2.2.2.2.2.2.2.2.2.2.2.2.2.2.2.2.2.2.2.2.2.2.2.2.2.2.2.2.2.1
theorem kESR_140 {G : kGt} {sa : Nat → Nat} {so : kSo} (h : kESR G sa so) {A : Nat → Prop} {s : State} {H : Heap} (g : G A s H) : vk_R "KnowHouseModel" 300 "counts iii" (sa 444) s := (h A s H g).2.2.2.2.2.2.2.2.2.2.2.2.2.2.2.2.2.2.2.2.2.2.2.2.2.2.2.2.2.2.2.2.2.2.2.2.2.2.2.2.2.2.2.2.2.2.2.2.2.2.2.2.2.2.2.2.2.2.2.2.2.2.2.2.2.2.2.2.2.2.2.2.2.2.2.2.2.2.2.2.2.2.2.2.2.2.2.2.2.2.2.2.2.2.2.2.2.2.2.2.2.2.2.2.2.2.2.2.2.2.2.2.2.2.2.2.2.2.2.2.2.2.2.2.2.2.2.2.2.2.2.2.2.2.2.2.2.2.2.2.1
theorem kESR_141 {G : kGt} {sa : Nat → Nat} {so : kSo} (h : kESR G sa so) {A : Nat → Prop} {s : State} {H : Heap} (g : G A s H) : vk_R "KnowHouseModel" 302 "row i" (sa 445) s := (h A s H g).2.2.2.2.2.2.2.2.2.2.2.2.2.2.2.2.2.2.2.2.2.2.2.2.2.2.2.2.2.2.2.2.2.2.2.2.2.2.2.2.2.2.2.2.2.2.2.2.2.2.2.2.2.2.2.2.2.2.2.2.2.2.2.2.2.2.2.2.2.2.2.2.2.2.2.2.2.2.2.2.2.2.2.2.2.2.2.2.2.2.2.2.2.2.2.2.2.2.2.2.2.2.2.2.2.2.2.2.2.2.2.2.2.2.2.2.2.2.2.2.2.2.2.2.2.2.2.2.2.2.2.2.2.2.2.2.2.2.2.2.2.1
theorem kESR_142 {G : kGt} {sa : Nat → Nat} {so : kSo} (h : kESR G sa so) {A : Nat → Prop} {s : State} {H : Heap} (g : G A s H) : vk_R "KnowHouseModel" 304 "size " (sa 446) s := (h A s H g).2.2.2.2.2.2.2.2.2.2.2.2.2.2.2.2.2.2.2.2.2.2.2.2.2.2.2.2.2.2.2.2.2.2.2.2.2.2.2.2.2.2.2.2.2.2.2.2.2.2.2.2.2.2.2.2.2.2.2.2.2.2.2.2.2.2.2.2.2.2.2.2.2.2.2.2.2.2.2.2.2.2.2.2.2.2.2.2.2.2.2.2.2.2.2.2.2.2.2.2.2.2.2.2.2.2.2.2.2.2.2.2.2.2.2.2.2.2.2.2.2.2.2.2.2.2.2.2.2.2.2.2.2.2.2.2.2.2.2.2.2.2.1
theorem kESR_143 {G : kGt} {sa : Nat → Nat} {so : kSo} (h : kESR G sa so) {A : Nat → Prop} {s : State} {H : Heap} (g : G A s H) : vk_R "KnowHouseModel" 306 "fact biii" (sa 447) s := (h A s H g).2.2.2.2.2.2.2.2.2.2.2.2.2.2.2.2.2.2.2.2.2.2.2.2.2.2.2.2.2.2.2.2.2.2.2.2.2.2.2.2.2.2.2.2.2.2.2.2.2.2.2.2.2.2.2.2.2.2.2.2.2.2.2.2.2.2.2.2.2.2.2.2.2.2.2.2.2.2.2.2.2.2.2.2.2.2.2.2.2.2.2.2.2.2.2.2.2.2.2.2.2.2.2.2.2.2.2.2.2.2.2.2.2.2.2.2.2.2.2.2.2.2.2.2.2.2.2.2.2.2.2.2.2.2.2.2.2.2.2.2.2.2.2.1
theorem kESR_144 {G : kGt} {sa : Nat → Nat} {so : kSo} (h : kESR G sa so) {A : Nat → Prop} {s : State} {H : Heap} (g : G A s H) : vk_R "KnowHouseModel" 308 "forget biii" (sa 448) s := (h A s H g).2.2.2.2.2.2.2.2.2.2.2.2.2.2.2.2.2.2.2.2.2.2.2.2.2.2.2.2.2.2.2.2.2.2.2.2.2.2.2.2.2.2.2.2.2.2.2.2.2.2.2.2.2.2.2.2.2.2.2.2.2.2.2.2.2.2.2.2.2.2.2.2.2.2.2.2.2.2.2.2.2.2.2.2.2.2.2.2.2.2.2.2.2.2.2.2.2.2.2.2.2.2.2.2.2.2.2.2.2.2.2.2.2.2.2.2.2.2.2.2.2.2.2.2.2.2.2.2.2.2.2.2.2.2.2.2.2.2.2.2.2.2.2.2.1
theorem kESR_145 {G : kGt} {sa : Nat → Nat} {so : kSo} (h : kESR G sa so) {A : Nat → Prop} {s : State} {H : Heap} (g : G A s H) : vk_R "KnowHouseModel" 310 "question i" (sa 449) s := (h A s H g).2.2.2.2.2.2.2.2.2.2.2.2.2.2.2.2.2.2.2.2.2.2.2.2.2.2.2.2.2.2.2.2.2.2.2.2.2.2.2.2.2.2.2.2.2.2.2.2.2.2.2.2.2.2.2.2.2.2.2.2.2.2.2.2.2.2.2.2.2.2.2.2.2.2.2.2.2.2.2.2.2.2.2.2.2.2.2.2.2.2.2.2.2.2.2.2.2.2.2.2.2.2.2.2.2.2.2.2.2.2.2.2.2.2.2.2.2.2.2.2.2.2.2.2.2.2.2.2.2.2.2.2.2.2.2.2.2.2.2.2.2.2.2.2.2.1
theorem kESR_146 {G : kGt} {sa : Nat → Nat} {so : kSo} (h : kESR G sa so) {A : Nat → Prop} {s : State} {H : Heap} (g : G A s H) : vk_R "KnowHouseModel" 312 "atom ibiii" (sa 450) s := (h A s H g).2.2.2.2.2.2.2.2.2.2.2.2.2.2.2.2.2.2.2.2.2.2.2.2.2.2.2.2.2.2.2.2.2.2.2.2.2.2.2.2.2.2.2.2.2.2.2.2.2.2.2.2.2.2.2.2.2.2.2.2.2.2.2.2.2.2.2.2.2.2.2.2.2.2.2.2.2.2.2.2.2.2.2.2.2.2.2.2.2.2.2.2.2.2.2.2.2.2.2.2.2.2.2.2.2.2.2.2.2.2.2.2.2.2.2.2.2.2.2.2.2.2.2.2.2.2.2.2.2.2.2.2.2.2.2.2.2.2.2.2.2.2.2.2.2.2.1
theorem kESR_147 {G : kGt} {sa : Nat → Nat} {so : kSo} (h : kESR G sa so) {A : Nat → Prop} {s : State} {H : Heap} (g : G A s H) : vk_R "KnowHouseModel" 314 "forms i" (sa 451) s := (h A s H g).2.2.2.2.2.2.2.2.2.2.2.2.2.2.2.2.2.2.2.2.2.2.2.2.2.2.2.2.2.2.2.2.2.2.2.2.2.2.2.2.2.2.2.2.2.2.2.2.2.2.2.2.2.2.2.2.2.2.2.2.2.2.2.2.2.2.2.2.2.2.2.2.2.2.2.2.2.2.2.2.2.2.2.2.2.2.2.2.2.2.2.2.2.2.2.2.2.2.2.2.2.2.2.2.2.2.2.2.2.2.2.2.2.2.2.2.2.2.2.2.2.2.2.2.2.2.2.2.2.2.2.2.2.2.2.2.2.2.2.2.2.2.2.2.2.2.2.1
theorem kESR_148 {G : kGt} {sa : Nat → Nat} {so : kSo} (h : kESR G sa so) {A : Nat → Prop} {s : State} {H : Heap} (g : G A s H) : vk_R "KnowHouseModel" 316 "form iii" (sa 452) s := (h A s H g).2.2.2.2.2.2.2.2.2.2.2.2.2.2.2.2.2.2.2.2.2.2.2.2.2.2.2.2.2.2.2.2.2.2.2.2.2.2.2.2.2.2.2.2.2.2.2.2.2.2.2.2.2.2.2.2.2.2.2.2.2.2.2.2.2.2.2.2.2.2.2.2.2.2.2.2.2.2.2.2.2.2.2.2.2.2.2.2.2.2.2.2.2.2.2.2.2.2.2.2.2.2.2.2.2.2.2.2.2.2.2.2.2.2.2.2.2.2.2.2.2.2.2.2.2.2.2.2.2.2.2.2.2.2.2.2.2.2.2.2.2.2.2.2.2.2.2.2.1
theorem kESR_149 {G : kGt} {sa : Nat → Nat} {so : kSo} (h : kESR G sa so) {A : Nat → Prop} {s : State} {H : Heap} (g : G A s H) : vk_R "KnowHouseModel" 318 "run i" (sa 453) s := (h A s H g).2.2.2.2.2.2.2.2.2.2.2.2.2.2.2.2.2.2.2.2.2.2.2.2.2.2.2.2.2.2.2.2.2.2.2.2.2.2.2.2.2.2.2.2.2.2.2.2.2.2.2.2.2.2.2.2.2.2.2.2.2.2.2.2.2.2.2.2.2.2.2.2.2.2.2.2.2.2.2.2.2.2.2.2.2.2.2.2.2.2.2.2.2.2.2.2.2.2.2.2.2.2.2.2.2.2.2.2.2.2.2.2.2.2.2.2.2.2.2.2.2.2.2.2.2.2.2.2.2.2.2.2.2.2.2.2.2.2.2.2.2.2.2.2.2.2.2.2.2.1
theorem kESR_150 {G : kGt} {sa : Nat → Nat} {so : kSo} (h : kESR G sa so) {A : Nat → Prop} {s : State} {H : Heap} (g : G A s H) : vk_R "KnowHouseModel" 320 "answer ii" (sa 454) s := (h A s H g).2.2.2.2.2.2.2.2.2.2.2.2.2.2.2.2.2.2.2.2.2.2.2.2.2.2.2.2.2.2.2.2.2.2.2.2.2.2.2.2.2.2.2.2.2.2.2.2.2.2.2.2.2.2.2.2.2.2.2.2.2.2.2.2.2.2.2.2.2.2.2.2.2.2.2.2.2.2.2.2.2.2.2.2.2.2.2.2.2.2.2.2.2.2.2.2.2.2.2.2.2.2.2.2.2.2.2.2.2.2.2.2.2.2.2.2.2.2.2.2.2.2.2.2.2.2.2.2.2.2.2.2.2.2.2.2.2.2.2.2.2.2.2.2.2.2.2.2.2.2.1
theorem kESR_151 {G : kGt} {sa : Nat → Nat} {so : kSo} (h : kESR G sa so) {A : Nat → Prop} {s : State} {H : Heap} (g : G A s H) : vk_R "KnowHouseModel" 322 "why ii" (sa 455) s := (h A s H g).2.2.2.2.2.2.2.2.2.2.2.2.2.2.2.2.2.2.2.2.2.2.2.2.2.2.2.2.2.2.2.2.2.2.2.2.2.2.2.2.2.2.2.2.2.2.2.2.2.2.2.2.2.2.2.2.2.2.2.2.2.2.2.2.2.2.2.2.2.2.2.2.2.2.2.2.2.2.2.2.2.2.2.2.2.2.2.2.2.2.2.2.2.2.2.2.2.2.2.2.2.2.2.2.2.2.2.2.2.2.2.2.2.2.2.2.2.2.2.2.2.2.2.2.2.2.2.2.2.2.2.2.2.2.2.2.2.2.2.2.2.2.2.2.2.2.2.2.2.2.2.1
theorem kESR_152 {G : kGt} {sa : Nat → Nat} {so : kSo} (h : kESR G sa so) {A : Nat → Prop} {s : State} {H : Heap} (g : G A s H) : vk_R "KnowHouseModel" 324 "page iil" (sa 456) s := (h A s H g).2.2.2.2.2.2.2.2.2.2.2.2.2.2.2.2.2.2.2.2.2.2.2.2.2.2.2.2.2.2.2.2.2.2.2.2.2.2.2.2.2.2.2.2.2.2.2.2.2.2.2.2.2.2.2.2.2.2.2.2.2.2.2.2.2.2.2.2.2.2.2.2.2.2.2.2.2.2.2.2.2.2.2.2.2.2.2.2.2.2.2.2.2.2.2.2.2.2.2.2.2.2.2.2.2.2.2.2.2.2.2.2.2.2.2.2.2.2.2.2.2.2.2.2.2.2.2.2.2.2.2.2.2.2.2.2.2.2.2.2.2.2.2.2.2.2.2.2.2.2.2.2.1
theorem kESR_153 {G : kGt} {sa : Nat → Nat} {so : kSo} (h : kESR G sa so) {A : Nat → Prop} {s : State} {H : Heap} (g : G A s H) : vk_R "KnowHouseModel" 326 "sync " (sa 457) s := (h A s H g).2.2.2.2.2.2.2.2.2.2.2.2.2.2.2.2.2.2.2.2.2.2.2.2.2.2.2.2.2.2.2.2.2.2.2.2.2.2.2.2.2.2.2.2.2.2.2.2.2.2.2.2.2.2.2.2.2.2.2.2.2.2.2.2.2.2.2.2.2.2.2.2.2.2.2.2.2.2.2.2.2.2.2.2.2.2.2.2.2.2.2.2.2.2.2.2.2.2.2.2.2.2.2.2.2.2.2.2.2.2.2.2.2.2.2.2.2.2.2.2.2.2.2.2.2.2.2.2.2.2.2.2.2.2.2.2.2.2.2.2.2.2.2.2.2.2.2.2.2.2.2.2.2.1
theorem kESR_154 {G : kGt} {sa : Nat → Nat} {so : kSo} (h : kESR G sa so) {A : Nat → Prop} {s : State} {H : Heap} (g : G A s H) : vk_R "KnowHouseModel" 328 "cut ii" (sa 458) s := (h A s H g).2.2.2.2.2.2.2.2.2.2.2.2.2.2.2.2.2.2.2.2.2.2.2.2.2.2.2.2.2.2.2.2.2.2.2.2.2.2.2.2.2.2.2.2.2.2.2.2.2.2.2.2.2.2.2.2.2.2.2.2.2.2.2.2.2.2.2.2.2.2.2.2.2.2.2.2.2.2.2.2.2.2.2.2.2.2.2.2.2.2.2.2.2.2.2.2.2.2.2.2.2.2.2.2.2.2.2.2.2.2.2.2.2.2.2.2.2.2.2.2.2.2.2.2.2.2.2.2.2.2.2.2.2.2.2.2.2.2.2.2.2.2.2.2.2.2.2.2.2.2.2.2.2.2.1
theorem kESR_155 {G : kGt} {sa : Nat → Nat} {so : kSo} (h : kESR G sa so) {A : Nat → Prop} {s : State} {H : Heap} (g : G A s H) : vk_R "KnowHouseModel" 330 "start " (sa 459) s := (h A s H g).2.2.2.2.2.2.2.2.2.2.2.2.2.2.2.2.2.2.2.2.2.2.2.2.2.2.2.2.2.2.2.2.2.2.2.2.2.2.2.2.2.2.2.2.2.2.2.2.2.2.2.2.2.2.2.2.2.2.2.2.2.2.2.2.2.2.2.2.2.2.2.2.2.2.2.2.2.2.2.2.2.2.2.2.2.2.2.2.2.2.2.2.2.2.2.2.2.2.2.2.2.2.2.2.2.2.2.2.2.2.2.2.2.2.2.2.2.2.2.2.2.2.2.2.2.2.2.2.2.2.2.2.2.2.2.2.2.2.2.2.2.2.2.2.2.2.2.2.2.2.2.2.2.2.2.1
theorem kESR_156 {G : kGt} {sa : Nat → Nat} {so : kSo} (h : kESR G sa so) {A : Nat → Prop} {s : State} {H : Heap} (g : G A s H) : vk_R "KnowHouseModel" 332 "poke iii" (sa 460) s := (h A s H g).2.2.2.2.2.2.2.2.2.2.2.2.2.2.2.2.2.2.2.2.2.2.2.2.2.2.2.2.2.2.2.2.2.2.2.2.2.2.2.2.2.2.2.2.2.2.2.2.2.2.2.2.2.2.2.2.2.2.2.2.2.2.2.2.2.2.2.2.2.2.2.2.2.2.2.2.2.2.2.2.2.2.2.2.2.2.2.2.2.2.2.2.2.2.2.2.2.2.2.2.2.2.2.2.2.2.2.2.2.2.2.2.2.2.2.2.2.2.2.2.2.2.2.2.2.2.2.2.2.2.2.2.2.2.2.2.2.2.2.2.2.2.2.2.2.2.2.2.2.2.2.2.2.2.2.2.1
theorem kESR_157 {G : kGt} {sa : Nat → Nat} {so : kSo} (h : kESR G sa so) {A : Nat → Prop} {s : State} {H : Heap} (g : G A s H) : vk_R "KnowHouseModel" 334 "wrong i" (sa 461) s := (h A s H g).2.2.2.2.2.2.2.2.2.2.2.2.2.2.2.2.2.2.2.2.2.2.2.2.2.2.2.2.2.2.2.2.2.2.2.2.2.2.2.2.2.2.2.2.2.2.2.2.2.2.2.2.2.2.2.2.2.2.2.2.2.2.2.2.2.2.2.2.2.2.2.2.2.2.2.2.2.2.2.2.2.2.2.2.2.2.2.2.2.2.2.2.2.2.2.2.2.2.2.2.2.2.2.2.2.2.2.2.2.2.2.2.2.2.2.2.2.2.2.2.2.2.2.2.2.2.2.2.2.2.2.2.2.2.2.2.2.2.2.2.2.2.2.2.2.2.2.2.2.2.2.2.2.2.2.2.2.1
theorem kESR_158 {G : kGt} {sa : Nat → Nat} {so : kSo} (h : kESR G sa so) {A : Nat → Prop} {s : State} {H : Heap} (g : G A s H) : vk_R "KnowHouseModel" 336 "backup i" (sa 462) s := (h A s H g).2.2.2.2.2.2.2.2.2.2.2.2.2.2.2.2.2.2.2.2.2.2.2.2.2.2.2.2.2.2.2.2.2.2.2.2.2.2.2.2.2.2.2.2.2.2.2.2.2.2.2.2.2.2.2.2.2.2.2.2.2.2.2.2.2.2.2.2.2.2.2.2.2.2.2.2.2.2.2.2.2.2.2.2.2.2.2.2.2.2.2.2.2.2.2.2.2.2.2.2.2.2.2.2.2.2.2.2.2.2.2.2.2.2.2.2.2.2.2.2.2.2.2.2.2.2.2.2.2.2.2.2.2.2.2.2.2.2.2.2.2.2.2.2.2.2.2.2.2.2.2.2.2.2.2.2.2.2.1
theorem kESR_159 {G : kGt} {sa : Nat → Nat} {so : kSo} (h : kESR G sa so) {A : Nat → Prop} {s : State} {H : Heap} (g : G A s H) : vk_R "KnowHouseModel" 338 "derived i" (sa 463) s := (h A s H g).2.2.2.2.2.2.2.2.2.2.2.2.2.2.2.2.2.2.2.2.2.2.2.2.2.2.2.2.2.2.2.2.2.2.2.2.2.2.2.2.2.2.2.2.2.2.2.2.2.2.2.2.2.2.2.2.2.2.2.2.2.2.2.2.2.2.2.2.2.2.2.2.2.2.2.2.2.2.2.2.2.2.2.2.2.2.2.2.2.2.2.2.2.2.2.2.2.2.2.2.2.2.2.2.2.2.2.2.2.2.2.2.2.2.2.2.2.2.2.2.2.2.2.2.2.2.2.2.2.2.2.2.2.2.2.2.2.2.2.2.2.2.2.2.2.2.2.2.2.2.2.2.2.2.2.2.2.2.2.1
theorem kESR_160 {G : kGt} {sa : Nat → Nat} {so : kSo} (h : kESR G sa so) {A : Nat → Prop} {s : State} {H : Heap} (g : G A s H) : vk_R "KnowHouseModel" 340 "full b" (sa 464) s := (h A s H g).2.2.2.2.2.2.2.2.2.2.2.2.2.2.2.2.2.2.2.2.2.2.2.2.2.2.2.2.2.2.2.2.2.2.2.2.2.2.2.2.2.2.2.2.2.2.2.2.2.2.2.2.2.2.2.2.2.2.2.2.2.2.2.2.2.2.2.2.2.2.2.2.2.2.2.2.2.2.2.2.2.2.2.2.2.2.2.2.2.2.2.2.2.2.2.2.2.2.2.2.2.2.2.2.2.2.2.2.2.2.2.2.2.2.2.2.2.2.2.2.2.2.2.2.2.2.2.2.2.2.2.2.2.2.2.2.2.2.2.2.2.2.2.2.2.2.2.2.2.2.2.2.2.2.2.2.2.2.2.2.1
theorem kESR_161 {G : kGt} {sa : Nat → Nat} {so : kSo} (h : kESR G sa so) {A : Nat → Prop} {s : State} {H : Heap} (g : G A s H) : va_Z "java/lang/String" "COMPACT_STRINGS" "Z" (.int 1) A s H := (h A s H g).2.2.2.2.2.2.2.2.2.2.2.2.2.2.2.2.2.2.2.2.2.2.2.2.2.2.2.2.2.2.2.2.2.2.2.2.2.2.2.2.2.2.2.2.2.2.2.2.2.2.2.2.2.2.2.2.2.2.2.2.2.2.2.2.2.2.2.2.2.2.2.2.2.2.2.2.2.2.2.2.2.2.2.2.2.2.2.2.2.2.2.2.2.2.2.2.2.2.2.2.2.2.2.2.2.2.2.2.2.2.2.2.2.2.2.2.2.2.2.2.2.2.2.2.2.2.2.2.2.2.2.2.2.2.2.2.2.2.2.2.2.2.2.2.2.2.2.2.2.2.2.2.2.2.2.2.2.2.2.2.2.1
theorem kESR_162 {G : kGt} {sa : Nat → Nat} {so : kSo} (h : kESR G sa so) {A : Nat → Prop} {s : State} {H : Heap} (g : G A s H) : va_Z "jdk/internal/util/Preconditions" "SIOOBE_FORMATTER" "Ljava/util/function/BiFunction;" (.ref (sa 11)) A s H := (h A s H g).2.2.2.2.2.2.2.2.2.2.2.2.2.2.2.2.2.2.2.2.2.2.2.2.2.2.2.2.2.2.2.2.2.2.2.2.2.2.2.2.2.2.2.2.2.2.2.2.2.2.2.2.2.2.2.2.2.2.2.2.2.2.2.2.2.2.2.2.2.2.2.2.2.2.2.2.2.2.2.2.2.2.2.2.2.2.2.2.2.2.2.2.2.2.2.2.2.2.2.2.2.2.2.2.2.2.2.2.2.2.2.2.2.2.2.2.2.2.2.2.2.2.2.2.2.2.2.2.2.2.2.2.2.2.2.2.2.2.2.2.2.2.2.2.2.2.2.2.2.2.2.2.2.2.2.2.2.2.2.2.2.2.1
theorem kESR_163 {G : kGt} {sa : Nat → Nat} {so : kSo} (h : kESR G sa so) {A : Nat → Prop} {s : State} {H : Heap} (g : G A s H) : vk_R "java/lang/StringLatin1" 151 "" (sa 465) s := (h A s H g).2.2.2.2.2.2.2.2.2.2.2.2.2.2.2.2.2.2.2.2.2.2.2.2.2.2.2.2.2.2.2.2.2.2.2.2.2.2.2.2.2.2.2.2.2.2.2.2.2.2.2.2.2.2.2.2.2.2.2.2.2.2.2.2.2.2.2.2.2.2.2.2.2.2.2.2.2.2.2.2.2.2.2.2.2.2.2.2.2.2.2.2.2.2.2.2.2.2.2.2.2.2.2.2.2.2.2.2.2.2.2.2.2.2.2.2.2.2.2.2.2.2.2.2.2.2.2.2.2.2.2.2.2.2.2.2.2.2.2.2.2.2.2.2.2.2.2.2.2.2.2.2.2.2.2.2.2.2.2.2.2.2.2.1
def cSR (ci : Nat → Nat) (d : Nat → ClassId) (kd : Nat → Nat) (an : Nat → Nat) (ai : Nat → Nat → Int32) (al : Nat → Nat → Int64) (ar : Nat → Nat → Option Nat) (mX45_rooms : Nat → Option Nat) (mX45_calls : Nat → Option Nat) (mX45_names : Nat → Option Nat) (mX45_versions : Nat → Option Nat) (mX45_values : Nat → Option Nat) (mX45_proofs : Nat → Option Nat) (mX45_rights : Nat → Option Nat) (mX45_classes : Nat → Option Nat) (mX45_facets : Nat → Option Nat) (mX45_tables : Nat → Option Nat) (mX45_rules : Nat → Option Nat) (mX45_rewrite : Nat → Option Nat) (mX45_disk : Nat → Option Nat) (mX45_tape : Nat → Option Nat) (mX45_size : Nat → Int32) (mX45_begins : Nat → Option Nat) (mX45_ends : Nat → Option Nat) (mX45_words : Nat → Int32) (mX45_need : Nat → Option Nat) (mX45_told : Nat → Option Nat) (mX45_threw : Nat → Option Nat) (mX45_done : Nat → Int32) (mX45_wrong : Nat → Int32) (mX45_throwing : Nat → Int32) (mX45_ledger : Nat → Option Nat) (mX45_entries : Nat → Int32) (mX46_texts : Nat → Option Nat) : Nat → va_E := fun a => match kd a with
  | 1 => .inr (ci 0, [va_rf (mX45_rooms a), va_rf (mX45_calls a), va_rf (mX45_names a), va_rf (mX45_versions a), va_rf (mX45_values a), va_rf (mX45_proofs a), va_rf (mX45_rights a), va_rf (mX45_classes a), va_rf (mX45_facets a), va_rf (mX45_tables a), va_rf (mX45_rules a), va_rf (mX45_rewrite a), va_rf (mX45_disk a), va_rf (mX45_tape a), .int (mX45_size a), va_rf (mX45_begins a), va_rf (mX45_ends a), .int (mX45_words a), va_rf (mX45_need a), va_rf (mX45_told a), va_rf (mX45_threw a), .int (mX45_done a), .int (mX45_wrong a), .int (mX45_throwing a), va_rf (mX45_ledger a), .int (mX45_entries a)])
  | 2 => .inr (ci 1, [va_rf (mX46_texts a)])
  | 3 => .inl (d 0, an a, .inl (ai a))
  | 4 => .inl (d 1, an a, .inl (ai a))
  | 5 => .inl (d 2, an a, .inr (.inl (al a)))
  | 6 => .inl (d 3, an a, .inr (.inr (.inr (.inr (ar a)))))
  | 7 => .inl (d 4, an a, .inr (.inr (.inr (.inr (ar a)))))
  | _ => .inl (d 0, 0, .inl (fun _ => 0))
abbrev kSR : List vw_C := [(RX45, TX45, 26), (RX46, TX46, 1)]
abbrev tSR (d : Nat → ClassId) : List (ClassId × FieldType) := [(d 0, .int), (d 1, .boolean), (d 2, .long), (d 3, (.object "java/lang/String")), (d 4, (.object "KnowHouseModel$Calls"))] ++ tR47 (fun j => d (100 + j)) ++ tR48 (fun j => d (200 + j)) ++ tR49 (fun j => d (300 + j)) ++ tR50 (fun j => d (400 + j)) ++ tR51 (fun j => d (500 + j)) ++ tR52 (fun j => d (600 + j)) ++ tR53 (fun j => d (700 + j)) ++ tR54 (fun j => d (800 + j)) ++ tR55 (fun j => d (900 + j)) ++ tR56 (fun j => d (1000 + j)) ++ tR57 (fun j => d (1100 + j))
abbrev psSR (ci : Nat → Nat) (d : Nat → ClassId) (sa : Nat → Nat) (so : kSo) (ra : Nat → Nat) (R47_th : Int) (R47_S : cnT) (R48_th : Int) (R48_u : Int) (R48_b : Int) (R48_d : Int) (R48_S : vsS) (R49_th : Int) (R49_S : dvS) (R50_S : pqT) (R51_S : rdT) (R52_th : Int) (R52_u : Int) (R52_S : ctT) (R53_S : FcS) (R54_th : Int) (R54_S : vrS) (R55_S : reT) (R56_S : qrT) (R57_th : Int) (R57_T : Int) (R57_S : KS) : List (va_W → Prop) := [rR47 (fun j => ci (100 + j)) (fun j => d (100 + j)) (ra 1) R47_th R47_S, rR48 (fun j => ci (200 + j)) (fun j => d (200 + j)) (ra 2) R48_th R48_u R48_b R48_d R48_S, rR49 (fun j => ci (300 + j)) (fun j => d (300 + j)) (ra 3) R49_th R49_S, rR50 (fun j => ci (400 + j)) (fun j => d (400 + j)) (ra 4) R50_S, rR51 (fun j => ci (500 + j)) (fun j => d (500 + j)) (ra 5) R51_S, rR52 (fun j => ci (600 + j)) (fun j => d (600 + j)) (ra 6) R52_th R52_u R52_S, rR53 (fun j => ci (700 + j)) (fun j => d (700 + j)) (ra 7) R53_S, rR54 (fun j => ci (800 + j)) (fun j => d (800 + j)) (ra 8) R54_th R54_S, rR55 (fun j => ci (900 + j)) (fun j => d (900 + j)) (ra 9) R55_S, rR56 (fun j => ci (1000 + j)) (fun j => d (1000 + j)) (ra 10) R56_S, rR57 (fun j => ci (1100 + j)) (fun j => d (1100 + j)) (ra 11) R57_th R57_T R57_S]
def hrSR (l : Launch) (G : kGt) (sa : Nat → Nat) (so : kSo) (cl : List vw_C) (ci : Nat → Nat) : Prop := (∀ i q, kR47[i]? = some q → cl[ci (100 + i)]? = some q) ∧ (∀ i q, kR48[i]? = some q → cl[ci (200 + i)]? = some q) ∧ (∀ i q, kR49[i]? = some q → cl[ci (300 + i)]? = some q) ∧ (∀ i q, kR50[i]? = some q → cl[ci (400 + i)]? = some q) ∧ (∀ i q, kR51[i]? = some q → cl[ci (500 + i)]? = some q) ∧ (∀ i q, kR52[i]? = some q → cl[ci (600 + i)]? = some q) ∧ (∀ i q, kR53[i]? = some q → cl[ci (700 + i)]? = some q) ∧ (∀ i q, kR54[i]? = some q → cl[ci (800 + i)]? = some q) ∧ (∀ i q, kR55[i]? = some q → cl[ci (900 + i)]? = some q) ∧ (∀ i q, kR56[i]? = some q → cl[ci (1000 + i)]? = some q) ∧ (∀ i q, kR57[i]? = some q → cl[ci (1100 + i)]? = some q) ∧ True
theorem tsSR_1 (d : Nat → ClassId) : ∀ q, q ∈ tR47 (fun j => d (100 + j)) → q ∈ tSR d := fun q h => List.mem_append.mpr (Or.inl (List.mem_append.mpr (Or.inl (List.mem_append.mpr (Or.inl (List.mem_append.mpr (Or.inl (List.mem_append.mpr (Or.inl (List.mem_append.mpr (Or.inl (List.mem_append.mpr (Or.inl (List.mem_append.mpr (Or.inl (List.mem_append.mpr (Or.inl (List.mem_append.mpr (Or.inl (List.mem_append.mpr (Or.inr h)))))))))))))))))))))
theorem tsSR_2 (d : Nat → ClassId) : ∀ q, q ∈ tR48 (fun j => d (200 + j)) → q ∈ tSR d := fun q h => List.mem_append.mpr (Or.inl (List.mem_append.mpr (Or.inl (List.mem_append.mpr (Or.inl (List.mem_append.mpr (Or.inl (List.mem_append.mpr (Or.inl (List.mem_append.mpr (Or.inl (List.mem_append.mpr (Or.inl (List.mem_append.mpr (Or.inl (List.mem_append.mpr (Or.inl (List.mem_append.mpr (Or.inr h)))))))))))))))))))
theorem tsSR_3 (d : Nat → ClassId) : ∀ q, q ∈ tR49 (fun j => d (300 + j)) → q ∈ tSR d := fun q h => List.mem_append.mpr (Or.inl (List.mem_append.mpr (Or.inl (List.mem_append.mpr (Or.inl (List.mem_append.mpr (Or.inl (List.mem_append.mpr (Or.inl (List.mem_append.mpr (Or.inl (List.mem_append.mpr (Or.inl (List.mem_append.mpr (Or.inl (List.mem_append.mpr (Or.inr h)))))))))))))))))
theorem tsSR_4 (d : Nat → ClassId) : ∀ q, q ∈ tR50 (fun j => d (400 + j)) → q ∈ tSR d := fun q h => List.mem_append.mpr (Or.inl (List.mem_append.mpr (Or.inl (List.mem_append.mpr (Or.inl (List.mem_append.mpr (Or.inl (List.mem_append.mpr (Or.inl (List.mem_append.mpr (Or.inl (List.mem_append.mpr (Or.inl (List.mem_append.mpr (Or.inr h)))))))))))))))
theorem tsSR_5 (d : Nat → ClassId) : ∀ q, q ∈ tR51 (fun j => d (500 + j)) → q ∈ tSR d := fun q h => List.mem_append.mpr (Or.inl (List.mem_append.mpr (Or.inl (List.mem_append.mpr (Or.inl (List.mem_append.mpr (Or.inl (List.mem_append.mpr (Or.inl (List.mem_append.mpr (Or.inl (List.mem_append.mpr (Or.inr h)))))))))))))
theorem tsSR_6 (d : Nat → ClassId) : ∀ q, q ∈ tR52 (fun j => d (600 + j)) → q ∈ tSR d := fun q h => List.mem_append.mpr (Or.inl (List.mem_append.mpr (Or.inl (List.mem_append.mpr (Or.inl (List.mem_append.mpr (Or.inl (List.mem_append.mpr (Or.inl (List.mem_append.mpr (Or.inr h)))))))))))
theorem tsSR_7 (d : Nat → ClassId) : ∀ q, q ∈ tR53 (fun j => d (700 + j)) → q ∈ tSR d := fun q h => List.mem_append.mpr (Or.inl (List.mem_append.mpr (Or.inl (List.mem_append.mpr (Or.inl (List.mem_append.mpr (Or.inl (List.mem_append.mpr (Or.inr h)))))))))
theorem tsSR_8 (d : Nat → ClassId) : ∀ q, q ∈ tR54 (fun j => d (800 + j)) → q ∈ tSR d := fun q h => List.mem_append.mpr (Or.inl (List.mem_append.mpr (Or.inl (List.mem_append.mpr (Or.inl (List.mem_append.mpr (Or.inr h)))))))
theorem tsSR_9 (d : Nat → ClassId) : ∀ q, q ∈ tR55 (fun j => d (900 + j)) → q ∈ tSR d := fun q h => List.mem_append.mpr (Or.inl (List.mem_append.mpr (Or.inl (List.mem_append.mpr (Or.inr h)))))
theorem tsSR_10 (d : Nat → ClassId) : ∀ q, q ∈ tR56 (fun j => d (1000 + j)) → q ∈ tSR d := fun q h => List.mem_append.mpr (Or.inl (List.mem_append.mpr (Or.inr h)))
theorem tsSR_11 (d : Nat → ClassId) : ∀ q, q ∈ tR57 (fun j => d (1100 + j)) → q ∈ tSR d := fun q h => List.mem_append.mpr (Or.inr h)
theorem cSR_1 {ci : Nat → Nat} {d : Nat → ClassId} {kd : Nat → Nat} {an : Nat → Nat} {ai : Nat → Nat → Int32} {al : Nat → Nat → Int64} {ar : Nat → Nat → Option Nat} {mX45_rooms : Nat → Option Nat} {mX45_calls : Nat → Option Nat} {mX45_names : Nat → Option Nat} {mX45_versions : Nat → Option Nat} {mX45_values : Nat → Option Nat} {mX45_proofs : Nat → Option Nat} {mX45_rights : Nat → Option Nat} {mX45_classes : Nat → Option Nat} {mX45_facets : Nat → Option Nat} {mX45_tables : Nat → Option Nat} {mX45_rules : Nat → Option Nat} {mX45_rewrite : Nat → Option Nat} {mX45_disk : Nat → Option Nat} {mX45_tape : Nat → Option Nat} {mX45_size : Nat → Int32} {mX45_begins : Nat → Option Nat} {mX45_ends : Nat → Option Nat} {mX45_words : Nat → Int32} {mX45_need : Nat → Option Nat} {mX45_told : Nat → Option Nat} {mX45_threw : Nat → Option Nat} {mX45_done : Nat → Int32} {mX45_wrong : Nat → Int32} {mX45_throwing : Nat → Int32} {mX45_ledger : Nat → Option Nat} {mX45_entries : Nat → Int32} {mX46_texts : Nat → Option Nat} {a : Nat} (hk : kd a = 1) : (cSR ci d kd an ai al ar mX45_rooms mX45_calls mX45_names mX45_versions mX45_values mX45_proofs mX45_rights mX45_classes mX45_facets mX45_tables mX45_rules mX45_rewrite mX45_disk mX45_tape mX45_size mX45_begins mX45_ends mX45_words mX45_need mX45_told mX45_threw mX45_done mX45_wrong mX45_throwing mX45_ledger mX45_entries mX46_texts) a = .inr (ci 0, [va_rf (mX45_rooms a), va_rf (mX45_calls a), va_rf (mX45_names a), va_rf (mX45_versions a), va_rf (mX45_values a), va_rf (mX45_proofs a), va_rf (mX45_rights a), va_rf (mX45_classes a), va_rf (mX45_facets a), va_rf (mX45_tables a), va_rf (mX45_rules a), va_rf (mX45_rewrite a), va_rf (mX45_disk a), va_rf (mX45_tape a), .int (mX45_size a), va_rf (mX45_begins a), va_rf (mX45_ends a), .int (mX45_words a), va_rf (mX45_need a), va_rf (mX45_told a), va_rf (mX45_threw a), .int (mX45_done a), .int (mX45_wrong a), .int (mX45_throwing a), va_rf (mX45_ledger a), .int (mX45_entries a)]) := by unfold cSR; simp only [hk]
theorem cSR_1_0 {ci : Nat → Nat} {d : Nat → ClassId} {kd : Nat → Nat} {an : Nat → Nat} {ai : Nat → Nat → Int32} {al : Nat → Nat → Int64} {ar : Nat → Nat → Option Nat} {mX45_rooms : Nat → Option Nat} {mX45_calls : Nat → Option Nat} {mX45_names : Nat → Option Nat} {mX45_versions : Nat → Option Nat} {mX45_values : Nat → Option Nat} {mX45_proofs : Nat → Option Nat} {mX45_rights : Nat → Option Nat} {mX45_classes : Nat → Option Nat} {mX45_facets : Nat → Option Nat} {mX45_tables : Nat → Option Nat} {mX45_rules : Nat → Option Nat} {mX45_rewrite : Nat → Option Nat} {mX45_disk : Nat → Option Nat} {mX45_tape : Nat → Option Nat} {mX45_size : Nat → Int32} {mX45_begins : Nat → Option Nat} {mX45_ends : Nat → Option Nat} {mX45_words : Nat → Int32} {mX45_need : Nat → Option Nat} {mX45_told : Nat → Option Nat} {mX45_threw : Nat → Option Nat} {mX45_done : Nat → Int32} {mX45_wrong : Nat → Int32} {mX45_throwing : Nat → Int32} {mX45_ledger : Nat → Option Nat} {mX45_entries : Nat → Int32} {mX46_texts : Nat → Option Nat} {a : Nat} {v : Option Nat} (hk : kd a = 1) : va_up (cSR ci d kd an ai al ar mX45_rooms mX45_calls mX45_names mX45_versions mX45_values mX45_proofs mX45_rights mX45_classes mX45_facets mX45_tables mX45_rules mX45_rewrite mX45_disk mX45_tape mX45_size mX45_begins mX45_ends mX45_words mX45_need mX45_told mX45_threw mX45_done mX45_wrong mX45_throwing mX45_ledger mX45_entries mX46_texts) a (.inr (ci 0, [va_rf v, va_rf (mX45_calls a), va_rf (mX45_names a), va_rf (mX45_versions a), va_rf (mX45_values a), va_rf (mX45_proofs a), va_rf (mX45_rights a), va_rf (mX45_classes a), va_rf (mX45_facets a), va_rf (mX45_tables a), va_rf (mX45_rules a), va_rf (mX45_rewrite a), va_rf (mX45_disk a), va_rf (mX45_tape a), .int (mX45_size a), va_rf (mX45_begins a), va_rf (mX45_ends a), .int (mX45_words a), va_rf (mX45_need a), va_rf (mX45_told a), va_rf (mX45_threw a), .int (mX45_done a), .int (mX45_wrong a), .int (mX45_throwing a), va_rf (mX45_ledger a), .int (mX45_entries a)])) = (cSR ci d kd an ai al ar (va_up mX45_rooms a v) mX45_calls mX45_names mX45_versions mX45_values mX45_proofs mX45_rights mX45_classes mX45_facets mX45_tables mX45_rules mX45_rewrite mX45_disk mX45_tape mX45_size mX45_begins mX45_ends mX45_words mX45_need mX45_told mX45_threw mX45_done mX45_wrong mX45_throwing mX45_ledger mX45_entries mX46_texts) := by
  funext b
  by_cases h : b = a
  · subst h
    rw [va_up_self]
    unfold cSR
    rw [hk]
    simp only [va_up_self]
  · rw [va_up_ne _ _ h]
    unfold cSR
    simp only [va_up_ne _ _ h]
theorem cSR_1_1 {ci : Nat → Nat} {d : Nat → ClassId} {kd : Nat → Nat} {an : Nat → Nat} {ai : Nat → Nat → Int32} {al : Nat → Nat → Int64} {ar : Nat → Nat → Option Nat} {mX45_rooms : Nat → Option Nat} {mX45_calls : Nat → Option Nat} {mX45_names : Nat → Option Nat} {mX45_versions : Nat → Option Nat} {mX45_values : Nat → Option Nat} {mX45_proofs : Nat → Option Nat} {mX45_rights : Nat → Option Nat} {mX45_classes : Nat → Option Nat} {mX45_facets : Nat → Option Nat} {mX45_tables : Nat → Option Nat} {mX45_rules : Nat → Option Nat} {mX45_rewrite : Nat → Option Nat} {mX45_disk : Nat → Option Nat} {mX45_tape : Nat → Option Nat} {mX45_size : Nat → Int32} {mX45_begins : Nat → Option Nat} {mX45_ends : Nat → Option Nat} {mX45_words : Nat → Int32} {mX45_need : Nat → Option Nat} {mX45_told : Nat → Option Nat} {mX45_threw : Nat → Option Nat} {mX45_done : Nat → Int32} {mX45_wrong : Nat → Int32} {mX45_throwing : Nat → Int32} {mX45_ledger : Nat → Option Nat} {mX45_entries : Nat → Int32} {mX46_texts : Nat → Option Nat} {a : Nat} {v : Option Nat} (hk : kd a = 1) : va_up (cSR ci d kd an ai al ar mX45_rooms mX45_calls mX45_names mX45_versions mX45_values mX45_proofs mX45_rights mX45_classes mX45_facets mX45_tables mX45_rules mX45_rewrite mX45_disk mX45_tape mX45_size mX45_begins mX45_ends mX45_words mX45_need mX45_told mX45_threw mX45_done mX45_wrong mX45_throwing mX45_ledger mX45_entries mX46_texts) a (.inr (ci 0, [va_rf (mX45_rooms a), va_rf v, va_rf (mX45_names a), va_rf (mX45_versions a), va_rf (mX45_values a), va_rf (mX45_proofs a), va_rf (mX45_rights a), va_rf (mX45_classes a), va_rf (mX45_facets a), va_rf (mX45_tables a), va_rf (mX45_rules a), va_rf (mX45_rewrite a), va_rf (mX45_disk a), va_rf (mX45_tape a), .int (mX45_size a), va_rf (mX45_begins a), va_rf (mX45_ends a), .int (mX45_words a), va_rf (mX45_need a), va_rf (mX45_told a), va_rf (mX45_threw a), .int (mX45_done a), .int (mX45_wrong a), .int (mX45_throwing a), va_rf (mX45_ledger a), .int (mX45_entries a)])) = (cSR ci d kd an ai al ar mX45_rooms (va_up mX45_calls a v) mX45_names mX45_versions mX45_values mX45_proofs mX45_rights mX45_classes mX45_facets mX45_tables mX45_rules mX45_rewrite mX45_disk mX45_tape mX45_size mX45_begins mX45_ends mX45_words mX45_need mX45_told mX45_threw mX45_done mX45_wrong mX45_throwing mX45_ledger mX45_entries mX46_texts) := by
  funext b
  by_cases h : b = a
  · subst h
    rw [va_up_self]
    unfold cSR
    rw [hk]
    simp only [va_up_self]
  · rw [va_up_ne _ _ h]
    unfold cSR
    simp only [va_up_ne _ _ h]
theorem cSR_1_2 {ci : Nat → Nat} {d : Nat → ClassId} {kd : Nat → Nat} {an : Nat → Nat} {ai : Nat → Nat → Int32} {al : Nat → Nat → Int64} {ar : Nat → Nat → Option Nat} {mX45_rooms : Nat → Option Nat} {mX45_calls : Nat → Option Nat} {mX45_names : Nat → Option Nat} {mX45_versions : Nat → Option Nat} {mX45_values : Nat → Option Nat} {mX45_proofs : Nat → Option Nat} {mX45_rights : Nat → Option Nat} {mX45_classes : Nat → Option Nat} {mX45_facets : Nat → Option Nat} {mX45_tables : Nat → Option Nat} {mX45_rules : Nat → Option Nat} {mX45_rewrite : Nat → Option Nat} {mX45_disk : Nat → Option Nat} {mX45_tape : Nat → Option Nat} {mX45_size : Nat → Int32} {mX45_begins : Nat → Option Nat} {mX45_ends : Nat → Option Nat} {mX45_words : Nat → Int32} {mX45_need : Nat → Option Nat} {mX45_told : Nat → Option Nat} {mX45_threw : Nat → Option Nat} {mX45_done : Nat → Int32} {mX45_wrong : Nat → Int32} {mX45_throwing : Nat → Int32} {mX45_ledger : Nat → Option Nat} {mX45_entries : Nat → Int32} {mX46_texts : Nat → Option Nat} {a : Nat} {v : Option Nat} (hk : kd a = 1) : va_up (cSR ci d kd an ai al ar mX45_rooms mX45_calls mX45_names mX45_versions mX45_values mX45_proofs mX45_rights mX45_classes mX45_facets mX45_tables mX45_rules mX45_rewrite mX45_disk mX45_tape mX45_size mX45_begins mX45_ends mX45_words mX45_need mX45_told mX45_threw mX45_done mX45_wrong mX45_throwing mX45_ledger mX45_entries mX46_texts) a (.inr (ci 0, [va_rf (mX45_rooms a), va_rf (mX45_calls a), va_rf v, va_rf (mX45_versions a), va_rf (mX45_values a), va_rf (mX45_proofs a), va_rf (mX45_rights a), va_rf (mX45_classes a), va_rf (mX45_facets a), va_rf (mX45_tables a), va_rf (mX45_rules a), va_rf (mX45_rewrite a), va_rf (mX45_disk a), va_rf (mX45_tape a), .int (mX45_size a), va_rf (mX45_begins a), va_rf (mX45_ends a), .int (mX45_words a), va_rf (mX45_need a), va_rf (mX45_told a), va_rf (mX45_threw a), .int (mX45_done a), .int (mX45_wrong a), .int (mX45_throwing a), va_rf (mX45_ledger a), .int (mX45_entries a)])) = (cSR ci d kd an ai al ar mX45_rooms mX45_calls (va_up mX45_names a v) mX45_versions mX45_values mX45_proofs mX45_rights mX45_classes mX45_facets mX45_tables mX45_rules mX45_rewrite mX45_disk mX45_tape mX45_size mX45_begins mX45_ends mX45_words mX45_need mX45_told mX45_threw mX45_done mX45_wrong mX45_throwing mX45_ledger mX45_entries mX46_texts) := by
  funext b
  by_cases h : b = a
  · subst h
    rw [va_up_self]
    unfold cSR
    rw [hk]
    simp only [va_up_self]
  · rw [va_up_ne _ _ h]
    unfold cSR
    simp only [va_up_ne _ _ h]
theorem cSR_1_3 {ci : Nat → Nat} {d : Nat → ClassId} {kd : Nat → Nat} {an : Nat → Nat} {ai : Nat → Nat → Int32} {al : Nat → Nat → Int64} {ar : Nat → Nat → Option Nat} {mX45_rooms : Nat → Option Nat} {mX45_calls : Nat → Option Nat} {mX45_names : Nat → Option Nat} {mX45_versions : Nat → Option Nat} {mX45_values : Nat → Option Nat} {mX45_proofs : Nat → Option Nat} {mX45_rights : Nat → Option Nat} {mX45_classes : Nat → Option Nat} {mX45_facets : Nat → Option Nat} {mX45_tables : Nat → Option Nat} {mX45_rules : Nat → Option Nat} {mX45_rewrite : Nat → Option Nat} {mX45_disk : Nat → Option Nat} {mX45_tape : Nat → Option Nat} {mX45_size : Nat → Int32} {mX45_begins : Nat → Option Nat} {mX45_ends : Nat → Option Nat} {mX45_words : Nat → Int32} {mX45_need : Nat → Option Nat} {mX45_told : Nat → Option Nat} {mX45_threw : Nat → Option Nat} {mX45_done : Nat → Int32} {mX45_wrong : Nat → Int32} {mX45_throwing : Nat → Int32} {mX45_ledger : Nat → Option Nat} {mX45_entries : Nat → Int32} {mX46_texts : Nat → Option Nat} {a : Nat} {v : Option Nat} (hk : kd a = 1) : va_up (cSR ci d kd an ai al ar mX45_rooms mX45_calls mX45_names mX45_versions mX45_values mX45_proofs mX45_rights mX45_classes mX45_facets mX45_tables mX45_rules mX45_rewrite mX45_disk mX45_tape mX45_size mX45_begins mX45_ends mX45_words mX45_need mX45_told mX45_threw mX45_done mX45_wrong mX45_throwing mX45_ledger mX45_entries mX46_texts) a (.inr (ci 0, [va_rf (mX45_rooms a), va_rf (mX45_calls a), va_rf (mX45_names a), va_rf v, va_rf (mX45_values a), va_rf (mX45_proofs a), va_rf (mX45_rights a), va_rf (mX45_classes a), va_rf (mX45_facets a), va_rf (mX45_tables a), va_rf (mX45_rules a), va_rf (mX45_rewrite a), va_rf (mX45_disk a), va_rf (mX45_tape a), .int (mX45_size a), va_rf (mX45_begins a), va_rf (mX45_ends a), .int (mX45_words a), va_rf (mX45_need a), va_rf (mX45_told a), va_rf (mX45_threw a), .int (mX45_done a), .int (mX45_wrong a), .int (mX45_throwing a), va_rf (mX45_ledger a), .int (mX45_entries a)])) = (cSR ci d kd an ai al ar mX45_rooms mX45_calls mX45_names (va_up mX45_versions a v) mX45_values mX45_proofs mX45_rights mX45_classes mX45_facets mX45_tables mX45_rules mX45_rewrite mX45_disk mX45_tape mX45_size mX45_begins mX45_ends mX45_words mX45_need mX45_told mX45_threw mX45_done mX45_wrong mX45_throwing mX45_ledger mX45_entries mX46_texts) := by
  funext b
  by_cases h : b = a
  · subst h
    rw [va_up_self]
    unfold cSR
    rw [hk]
    simp only [va_up_self]
  · rw [va_up_ne _ _ h]
    unfold cSR
    simp only [va_up_ne _ _ h]
theorem cSR_1_4 {ci : Nat → Nat} {d : Nat → ClassId} {kd : Nat → Nat} {an : Nat → Nat} {ai : Nat → Nat → Int32} {al : Nat → Nat → Int64} {ar : Nat → Nat → Option Nat} {mX45_rooms : Nat → Option Nat} {mX45_calls : Nat → Option Nat} {mX45_names : Nat → Option Nat} {mX45_versions : Nat → Option Nat} {mX45_values : Nat → Option Nat} {mX45_proofs : Nat → Option Nat} {mX45_rights : Nat → Option Nat} {mX45_classes : Nat → Option Nat} {mX45_facets : Nat → Option Nat} {mX45_tables : Nat → Option Nat} {mX45_rules : Nat → Option Nat} {mX45_rewrite : Nat → Option Nat} {mX45_disk : Nat → Option Nat} {mX45_tape : Nat → Option Nat} {mX45_size : Nat → Int32} {mX45_begins : Nat → Option Nat} {mX45_ends : Nat → Option Nat} {mX45_words : Nat → Int32} {mX45_need : Nat → Option Nat} {mX45_told : Nat → Option Nat} {mX45_threw : Nat → Option Nat} {mX45_done : Nat → Int32} {mX45_wrong : Nat → Int32} {mX45_throwing : Nat → Int32} {mX45_ledger : Nat → Option Nat} {mX45_entries : Nat → Int32} {mX46_texts : Nat → Option Nat} {a : Nat} {v : Option Nat} (hk : kd a = 1) : va_up (cSR ci d kd an ai al ar mX45_rooms mX45_calls mX45_names mX45_versions mX45_values mX45_proofs mX45_rights mX45_classes mX45_facets mX45_tables mX45_rules mX45_rewrite mX45_disk mX45_tape mX45_size mX45_begins mX45_ends mX45_words mX45_need mX45_told mX45_threw mX45_done mX45_wrong mX45_throwing mX45_ledger mX45_entries mX46_texts) a (.inr (ci 0, [va_rf (mX45_rooms a), va_rf (mX45_calls a), va_rf (mX45_names a), va_rf (mX45_versions a), va_rf v, va_rf (mX45_proofs a), va_rf (mX45_rights a), va_rf (mX45_classes a), va_rf (mX45_facets a), va_rf (mX45_tables a), va_rf (mX45_rules a), va_rf (mX45_rewrite a), va_rf (mX45_disk a), va_rf (mX45_tape a), .int (mX45_size a), va_rf (mX45_begins a), va_rf (mX45_ends a), .int (mX45_words a), va_rf (mX45_need a), va_rf (mX45_told a), va_rf (mX45_threw a), .int (mX45_done a), .int (mX45_wrong a), .int (mX45_throwing a), va_rf (mX45_ledger a), .int (mX45_entries a)])) = (cSR ci d kd an ai al ar mX45_rooms mX45_calls mX45_names mX45_versions (va_up mX45_values a v) mX45_proofs mX45_rights mX45_classes mX45_facets mX45_tables mX45_rules mX45_rewrite mX45_disk mX45_tape mX45_size mX45_begins mX45_ends mX45_words mX45_need mX45_told mX45_threw mX45_done mX45_wrong mX45_throwing mX45_ledger mX45_entries mX46_texts) := by
  funext b
  by_cases h : b = a
  · subst h
    rw [va_up_self]
    unfold cSR
    rw [hk]
    simp only [va_up_self]
  · rw [va_up_ne _ _ h]
    unfold cSR
    simp only [va_up_ne _ _ h]
theorem cSR_1_5 {ci : Nat → Nat} {d : Nat → ClassId} {kd : Nat → Nat} {an : Nat → Nat} {ai : Nat → Nat → Int32} {al : Nat → Nat → Int64} {ar : Nat → Nat → Option Nat} {mX45_rooms : Nat → Option Nat} {mX45_calls : Nat → Option Nat} {mX45_names : Nat → Option Nat} {mX45_versions : Nat → Option Nat} {mX45_values : Nat → Option Nat} {mX45_proofs : Nat → Option Nat} {mX45_rights : Nat → Option Nat} {mX45_classes : Nat → Option Nat} {mX45_facets : Nat → Option Nat} {mX45_tables : Nat → Option Nat} {mX45_rules : Nat → Option Nat} {mX45_rewrite : Nat → Option Nat} {mX45_disk : Nat → Option Nat} {mX45_tape : Nat → Option Nat} {mX45_size : Nat → Int32} {mX45_begins : Nat → Option Nat} {mX45_ends : Nat → Option Nat} {mX45_words : Nat → Int32} {mX45_need : Nat → Option Nat} {mX45_told : Nat → Option Nat} {mX45_threw : Nat → Option Nat} {mX45_done : Nat → Int32} {mX45_wrong : Nat → Int32} {mX45_throwing : Nat → Int32} {mX45_ledger : Nat → Option Nat} {mX45_entries : Nat → Int32} {mX46_texts : Nat → Option Nat} {a : Nat} {v : Option Nat} (hk : kd a = 1) : va_up (cSR ci d kd an ai al ar mX45_rooms mX45_calls mX45_names mX45_versions mX45_values mX45_proofs mX45_rights mX45_classes mX45_facets mX45_tables mX45_rules mX45_rewrite mX45_disk mX45_tape mX45_size mX45_begins mX45_ends mX45_words mX45_need mX45_told mX45_threw mX45_done mX45_wrong mX45_throwing mX45_ledger mX45_entries mX46_texts) a (.inr (ci 0, [va_rf (mX45_rooms a), va_rf (mX45_calls a), va_rf (mX45_names a), va_rf (mX45_versions a), va_rf (mX45_values a), va_rf v, va_rf (mX45_rights a), va_rf (mX45_classes a), va_rf (mX45_facets a), va_rf (mX45_tables a), va_rf (mX45_rules a), va_rf (mX45_rewrite a), va_rf (mX45_disk a), va_rf (mX45_tape a), .int (mX45_size a), va_rf (mX45_begins a), va_rf (mX45_ends a), .int (mX45_words a), va_rf (mX45_need a), va_rf (mX45_told a), va_rf (mX45_threw a), .int (mX45_done a), .int (mX45_wrong a), .int (mX45_throwing a), va_rf (mX45_ledger a), .int (mX45_entries a)])) = (cSR ci d kd an ai al ar mX45_rooms mX45_calls mX45_names mX45_versions mX45_values (va_up mX45_proofs a v) mX45_rights mX45_classes mX45_facets mX45_tables mX45_rules mX45_rewrite mX45_disk mX45_tape mX45_size mX45_begins mX45_ends mX45_words mX45_need mX45_told mX45_threw mX45_done mX45_wrong mX45_throwing mX45_ledger mX45_entries mX46_texts) := by
  funext b
  by_cases h : b = a
  · subst h
    rw [va_up_self]
    unfold cSR
    rw [hk]
    simp only [va_up_self]
  · rw [va_up_ne _ _ h]
    unfold cSR
    simp only [va_up_ne _ _ h]
theorem cSR_1_6 {ci : Nat → Nat} {d : Nat → ClassId} {kd : Nat → Nat} {an : Nat → Nat} {ai : Nat → Nat → Int32} {al : Nat → Nat → Int64} {ar : Nat → Nat → Option Nat} {mX45_rooms : Nat → Option Nat} {mX45_calls : Nat → Option Nat} {mX45_names : Nat → Option Nat} {mX45_versions : Nat → Option Nat} {mX45_values : Nat → Option Nat} {mX45_proofs : Nat → Option Nat} {mX45_rights : Nat → Option Nat} {mX45_classes : Nat → Option Nat} {mX45_facets : Nat → Option Nat} {mX45_tables : Nat → Option Nat} {mX45_rules : Nat → Option Nat} {mX45_rewrite : Nat → Option Nat} {mX45_disk : Nat → Option Nat} {mX45_tape : Nat → Option Nat} {mX45_size : Nat → Int32} {mX45_begins : Nat → Option Nat} {mX45_ends : Nat → Option Nat} {mX45_words : Nat → Int32} {mX45_need : Nat → Option Nat} {mX45_told : Nat → Option Nat} {mX45_threw : Nat → Option Nat} {mX45_done : Nat → Int32} {mX45_wrong : Nat → Int32} {mX45_throwing : Nat → Int32} {mX45_ledger : Nat → Option Nat} {mX45_entries : Nat → Int32} {mX46_texts : Nat → Option Nat} {a : Nat} {v : Option Nat} (hk : kd a = 1) : va_up (cSR ci d kd an ai al ar mX45_rooms mX45_calls mX45_names mX45_versions mX45_values mX45_proofs mX45_rights mX45_classes mX45_facets mX45_tables mX45_rules mX45_rewrite mX45_disk mX45_tape mX45_size mX45_begins mX45_ends mX45_words mX45_need mX45_told mX45_threw mX45_done mX45_wrong mX45_throwing mX45_ledger mX45_entries mX46_texts) a (.inr (ci 0, [va_rf (mX45_rooms a), va_rf (mX45_calls a), va_rf (mX45_names a), va_rf (mX45_versions a), va_rf (mX45_values a), va_rf (mX45_proofs a), va_rf v, va_rf (mX45_classes a), va_rf (mX45_facets a), va_rf (mX45_tables a), va_rf (mX45_rules a), va_rf (mX45_rewrite a), va_rf (mX45_disk a), va_rf (mX45_tape a), .int (mX45_size a), va_rf (mX45_begins a), va_rf (mX45_ends a), .int (mX45_words a), va_rf (mX45_need a), va_rf (mX45_told a), va_rf (mX45_threw a), .int (mX45_done a), .int (mX45_wrong a), .int (mX45_throwing a), va_rf (mX45_ledger a), .int (mX45_entries a)])) = (cSR ci d kd an ai al ar mX45_rooms mX45_calls mX45_names mX45_versions mX45_values mX45_proofs (va_up mX45_rights a v) mX45_classes mX45_facets mX45_tables mX45_rules mX45_rewrite mX45_disk mX45_tape mX45_size mX45_begins mX45_ends mX45_words mX45_need mX45_told mX45_threw mX45_done mX45_wrong mX45_throwing mX45_ledger mX45_entries mX46_texts) := by
  funext b
  by_cases h : b = a
  · subst h
    rw [va_up_self]
    unfold cSR
    rw [hk]
    simp only [va_up_self]
  · rw [va_up_ne _ _ h]
    unfold cSR
    simp only [va_up_ne _ _ h]
theorem cSR_1_7 {ci : Nat → Nat} {d : Nat → ClassId} {kd : Nat → Nat} {an : Nat → Nat} {ai : Nat → Nat → Int32} {al : Nat → Nat → Int64} {ar : Nat → Nat → Option Nat} {mX45_rooms : Nat → Option Nat} {mX45_calls : Nat → Option Nat} {mX45_names : Nat → Option Nat} {mX45_versions : Nat → Option Nat} {mX45_values : Nat → Option Nat} {mX45_proofs : Nat → Option Nat} {mX45_rights : Nat → Option Nat} {mX45_classes : Nat → Option Nat} {mX45_facets : Nat → Option Nat} {mX45_tables : Nat → Option Nat} {mX45_rules : Nat → Option Nat} {mX45_rewrite : Nat → Option Nat} {mX45_disk : Nat → Option Nat} {mX45_tape : Nat → Option Nat} {mX45_size : Nat → Int32} {mX45_begins : Nat → Option Nat} {mX45_ends : Nat → Option Nat} {mX45_words : Nat → Int32} {mX45_need : Nat → Option Nat} {mX45_told : Nat → Option Nat} {mX45_threw : Nat → Option Nat} {mX45_done : Nat → Int32} {mX45_wrong : Nat → Int32} {mX45_throwing : Nat → Int32} {mX45_ledger : Nat → Option Nat} {mX45_entries : Nat → Int32} {mX46_texts : Nat → Option Nat} {a : Nat} {v : Option Nat} (hk : kd a = 1) : va_up (cSR ci d kd an ai al ar mX45_rooms mX45_calls mX45_names mX45_versions mX45_values mX45_proofs mX45_rights mX45_classes mX45_facets mX45_tables mX45_rules mX45_rewrite mX45_disk mX45_tape mX45_size mX45_begins mX45_ends mX45_words mX45_need mX45_told mX45_threw mX45_done mX45_wrong mX45_throwing mX45_ledger mX45_entries mX46_texts) a (.inr (ci 0, [va_rf (mX45_rooms a), va_rf (mX45_calls a), va_rf (mX45_names a), va_rf (mX45_versions a), va_rf (mX45_values a), va_rf (mX45_proofs a), va_rf (mX45_rights a), va_rf v, va_rf (mX45_facets a), va_rf (mX45_tables a), va_rf (mX45_rules a), va_rf (mX45_rewrite a), va_rf (mX45_disk a), va_rf (mX45_tape a), .int (mX45_size a), va_rf (mX45_begins a), va_rf (mX45_ends a), .int (mX45_words a), va_rf (mX45_need a), va_rf (mX45_told a), va_rf (mX45_threw a), .int (mX45_done a), .int (mX45_wrong a), .int (mX45_throwing a), va_rf (mX45_ledger a), .int (mX45_entries a)])) = (cSR ci d kd an ai al ar mX45_rooms mX45_calls mX45_names mX45_versions mX45_values mX45_proofs mX45_rights (va_up mX45_classes a v) mX45_facets mX45_tables mX45_rules mX45_rewrite mX45_disk mX45_tape mX45_size mX45_begins mX45_ends mX45_words mX45_need mX45_told mX45_threw mX45_done mX45_wrong mX45_throwing mX45_ledger mX45_entries mX46_texts) := by
  funext b
  by_cases h : b = a
  · subst h
    rw [va_up_self]
    unfold cSR
    rw [hk]
    simp only [va_up_self]
  · rw [va_up_ne _ _ h]
    unfold cSR
    simp only [va_up_ne _ _ h]
theorem cSR_1_8 {ci : Nat → Nat} {d : Nat → ClassId} {kd : Nat → Nat} {an : Nat → Nat} {ai : Nat → Nat → Int32} {al : Nat → Nat → Int64} {ar : Nat → Nat → Option Nat} {mX45_rooms : Nat → Option Nat} {mX45_calls : Nat → Option Nat} {mX45_names : Nat → Option Nat} {mX45_versions : Nat → Option Nat} {mX45_values : Nat → Option Nat} {mX45_proofs : Nat → Option Nat} {mX45_rights : Nat → Option Nat} {mX45_classes : Nat → Option Nat} {mX45_facets : Nat → Option Nat} {mX45_tables : Nat → Option Nat} {mX45_rules : Nat → Option Nat} {mX45_rewrite : Nat → Option Nat} {mX45_disk : Nat → Option Nat} {mX45_tape : Nat → Option Nat} {mX45_size : Nat → Int32} {mX45_begins : Nat → Option Nat} {mX45_ends : Nat → Option Nat} {mX45_words : Nat → Int32} {mX45_need : Nat → Option Nat} {mX45_told : Nat → Option Nat} {mX45_threw : Nat → Option Nat} {mX45_done : Nat → Int32} {mX45_wrong : Nat → Int32} {mX45_throwing : Nat → Int32} {mX45_ledger : Nat → Option Nat} {mX45_entries : Nat → Int32} {mX46_texts : Nat → Option Nat} {a : Nat} {v : Option Nat} (hk : kd a = 1) : va_up (cSR ci d kd an ai al ar mX45_rooms mX45_calls mX45_names mX45_versions mX45_values mX45_proofs mX45_rights mX45_classes mX45_facets mX45_tables mX45_rules mX45_rewrite mX45_disk mX45_tape mX45_size mX45_begins mX45_ends mX45_words mX45_need mX45_told mX45_threw mX45_done mX45_wrong mX45_throwing mX45_ledger mX45_entries mX46_texts) a (.inr (ci 0, [va_rf (mX45_rooms a), va_rf (mX45_calls a), va_rf (mX45_names a), va_rf (mX45_versions a), va_rf (mX45_values a), va_rf (mX45_proofs a), va_rf (mX45_rights a), va_rf (mX45_classes a), va_rf v, va_rf (mX45_tables a), va_rf (mX45_rules a), va_rf (mX45_rewrite a), va_rf (mX45_disk a), va_rf (mX45_tape a), .int (mX45_size a), va_rf (mX45_begins a), va_rf (mX45_ends a), .int (mX45_words a), va_rf (mX45_need a), va_rf (mX45_told a), va_rf (mX45_threw a), .int (mX45_done a), .int (mX45_wrong a), .int (mX45_throwing a), va_rf (mX45_ledger a), .int (mX45_entries a)])) = (cSR ci d kd an ai al ar mX45_rooms mX45_calls mX45_names mX45_versions mX45_values mX45_proofs mX45_rights mX45_classes (va_up mX45_facets a v) mX45_tables mX45_rules mX45_rewrite mX45_disk mX45_tape mX45_size mX45_begins mX45_ends mX45_words mX45_need mX45_told mX45_threw mX45_done mX45_wrong mX45_throwing mX45_ledger mX45_entries mX46_texts) := by
  funext b
  by_cases h : b = a
  · subst h
    rw [va_up_self]
    unfold cSR
    rw [hk]
    simp only [va_up_self]
  · rw [va_up_ne _ _ h]
    unfold cSR
    simp only [va_up_ne _ _ h]
theorem cSR_1_9 {ci : Nat → Nat} {d : Nat → ClassId} {kd : Nat → Nat} {an : Nat → Nat} {ai : Nat → Nat → Int32} {al : Nat → Nat → Int64} {ar : Nat → Nat → Option Nat} {mX45_rooms : Nat → Option Nat} {mX45_calls : Nat → Option Nat} {mX45_names : Nat → Option Nat} {mX45_versions : Nat → Option Nat} {mX45_values : Nat → Option Nat} {mX45_proofs : Nat → Option Nat} {mX45_rights : Nat → Option Nat} {mX45_classes : Nat → Option Nat} {mX45_facets : Nat → Option Nat} {mX45_tables : Nat → Option Nat} {mX45_rules : Nat → Option Nat} {mX45_rewrite : Nat → Option Nat} {mX45_disk : Nat → Option Nat} {mX45_tape : Nat → Option Nat} {mX45_size : Nat → Int32} {mX45_begins : Nat → Option Nat} {mX45_ends : Nat → Option Nat} {mX45_words : Nat → Int32} {mX45_need : Nat → Option Nat} {mX45_told : Nat → Option Nat} {mX45_threw : Nat → Option Nat} {mX45_done : Nat → Int32} {mX45_wrong : Nat → Int32} {mX45_throwing : Nat → Int32} {mX45_ledger : Nat → Option Nat} {mX45_entries : Nat → Int32} {mX46_texts : Nat → Option Nat} {a : Nat} {v : Option Nat} (hk : kd a = 1) : va_up (cSR ci d kd an ai al ar mX45_rooms mX45_calls mX45_names mX45_versions mX45_values mX45_proofs mX45_rights mX45_classes mX45_facets mX45_tables mX45_rules mX45_rewrite mX45_disk mX45_tape mX45_size mX45_begins mX45_ends mX45_words mX45_need mX45_told mX45_threw mX45_done mX45_wrong mX45_throwing mX45_ledger mX45_entries mX46_texts) a (.inr (ci 0, [va_rf (mX45_rooms a), va_rf (mX45_calls a), va_rf (mX45_names a), va_rf (mX45_versions a), va_rf (mX45_values a), va_rf (mX45_proofs a), va_rf (mX45_rights a), va_rf (mX45_classes a), va_rf (mX45_facets a), va_rf v, va_rf (mX45_rules a), va_rf (mX45_rewrite a), va_rf (mX45_disk a), va_rf (mX45_tape a), .int (mX45_size a), va_rf (mX45_begins a), va_rf (mX45_ends a), .int (mX45_words a), va_rf (mX45_need a), va_rf (mX45_told a), va_rf (mX45_threw a), .int (mX45_done a), .int (mX45_wrong a), .int (mX45_throwing a), va_rf (mX45_ledger a), .int (mX45_entries a)])) = (cSR ci d kd an ai al ar mX45_rooms mX45_calls mX45_names mX45_versions mX45_values mX45_proofs mX45_rights mX45_classes mX45_facets (va_up mX45_tables a v) mX45_rules mX45_rewrite mX45_disk mX45_tape mX45_size mX45_begins mX45_ends mX45_words mX45_need mX45_told mX45_threw mX45_done mX45_wrong mX45_throwing mX45_ledger mX45_entries mX46_texts) := by
  funext b
  by_cases h : b = a
  · subst h
    rw [va_up_self]
    unfold cSR
    rw [hk]
    simp only [va_up_self]
  · rw [va_up_ne _ _ h]
    unfold cSR
    simp only [va_up_ne _ _ h]
theorem cSR_1_10 {ci : Nat → Nat} {d : Nat → ClassId} {kd : Nat → Nat} {an : Nat → Nat} {ai : Nat → Nat → Int32} {al : Nat → Nat → Int64} {ar : Nat → Nat → Option Nat} {mX45_rooms : Nat → Option Nat} {mX45_calls : Nat → Option Nat} {mX45_names : Nat → Option Nat} {mX45_versions : Nat → Option Nat} {mX45_values : Nat → Option Nat} {mX45_proofs : Nat → Option Nat} {mX45_rights : Nat → Option Nat} {mX45_classes : Nat → Option Nat} {mX45_facets : Nat → Option Nat} {mX45_tables : Nat → Option Nat} {mX45_rules : Nat → Option Nat} {mX45_rewrite : Nat → Option Nat} {mX45_disk : Nat → Option Nat} {mX45_tape : Nat → Option Nat} {mX45_size : Nat → Int32} {mX45_begins : Nat → Option Nat} {mX45_ends : Nat → Option Nat} {mX45_words : Nat → Int32} {mX45_need : Nat → Option Nat} {mX45_told : Nat → Option Nat} {mX45_threw : Nat → Option Nat} {mX45_done : Nat → Int32} {mX45_wrong : Nat → Int32} {mX45_throwing : Nat → Int32} {mX45_ledger : Nat → Option Nat} {mX45_entries : Nat → Int32} {mX46_texts : Nat → Option Nat} {a : Nat} {v : Option Nat} (hk : kd a = 1) : va_up (cSR ci d kd an ai al ar mX45_rooms mX45_calls mX45_names mX45_versions mX45_values mX45_proofs mX45_rights mX45_classes mX45_facets mX45_tables mX45_rules mX45_rewrite mX45_disk mX45_tape mX45_size mX45_begins mX45_ends mX45_words mX45_need mX45_told mX45_threw mX45_done mX45_wrong mX45_throwing mX45_ledger mX45_entries mX46_texts) a (.inr (ci 0, [va_rf (mX45_rooms a), va_rf (mX45_calls a), va_rf (mX45_names a), va_rf (mX45_versions a), va_rf (mX45_values a), va_rf (mX45_proofs a), va_rf (mX45_rights a), va_rf (mX45_classes a), va_rf (mX45_facets a), va_rf (mX45_tables a), va_rf v, va_rf (mX45_rewrite a), va_rf (mX45_disk a), va_rf (mX45_tape a), .int (mX45_size a), va_rf (mX45_begins a), va_rf (mX45_ends a), .int (mX45_words a), va_rf (mX45_need a), va_rf (mX45_told a), va_rf (mX45_threw a), .int (mX45_done a), .int (mX45_wrong a), .int (mX45_throwing a), va_rf (mX45_ledger a), .int (mX45_entries a)])) = (cSR ci d kd an ai al ar mX45_rooms mX45_calls mX45_names mX45_versions mX45_values mX45_proofs mX45_rights mX45_classes mX45_facets mX45_tables (va_up mX45_rules a v) mX45_rewrite mX45_disk mX45_tape mX45_size mX45_begins mX45_ends mX45_words mX45_need mX45_told mX45_threw mX45_done mX45_wrong mX45_throwing mX45_ledger mX45_entries mX46_texts) := by
  funext b
  by_cases h : b = a
  · subst h
    rw [va_up_self]
    unfold cSR
    rw [hk]
    simp only [va_up_self]
  · rw [va_up_ne _ _ h]
    unfold cSR
    simp only [va_up_ne _ _ h]
theorem cSR_1_11 {ci : Nat → Nat} {d : Nat → ClassId} {kd : Nat → Nat} {an : Nat → Nat} {ai : Nat → Nat → Int32} {al : Nat → Nat → Int64} {ar : Nat → Nat → Option Nat} {mX45_rooms : Nat → Option Nat} {mX45_calls : Nat → Option Nat} {mX45_names : Nat → Option Nat} {mX45_versions : Nat → Option Nat} {mX45_values : Nat → Option Nat} {mX45_proofs : Nat → Option Nat} {mX45_rights : Nat → Option Nat} {mX45_classes : Nat → Option Nat} {mX45_facets : Nat → Option Nat} {mX45_tables : Nat → Option Nat} {mX45_rules : Nat → Option Nat} {mX45_rewrite : Nat → Option Nat} {mX45_disk : Nat → Option Nat} {mX45_tape : Nat → Option Nat} {mX45_size : Nat → Int32} {mX45_begins : Nat → Option Nat} {mX45_ends : Nat → Option Nat} {mX45_words : Nat → Int32} {mX45_need : Nat → Option Nat} {mX45_told : Nat → Option Nat} {mX45_threw : Nat → Option Nat} {mX45_done : Nat → Int32} {mX45_wrong : Nat → Int32} {mX45_throwing : Nat → Int32} {mX45_ledger : Nat → Option Nat} {mX45_entries : Nat → Int32} {mX46_texts : Nat → Option Nat} {a : Nat} {v : Option Nat} (hk : kd a = 1) : va_up (cSR ci d kd an ai al ar mX45_rooms mX45_calls mX45_names mX45_versions mX45_values mX45_proofs mX45_rights mX45_classes mX45_facets mX45_tables mX45_rules mX45_rewrite mX45_disk mX45_tape mX45_size mX45_begins mX45_ends mX45_words mX45_need mX45_told mX45_threw mX45_done mX45_wrong mX45_throwing mX45_ledger mX45_entries mX46_texts) a (.inr (ci 0, [va_rf (mX45_rooms a), va_rf (mX45_calls a), va_rf (mX45_names a), va_rf (mX45_versions a), va_rf (mX45_values a), va_rf (mX45_proofs a), va_rf (mX45_rights a), va_rf (mX45_classes a), va_rf (mX45_facets a), va_rf (mX45_tables a), va_rf (mX45_rules a), va_rf v, va_rf (mX45_disk a), va_rf (mX45_tape a), .int (mX45_size a), va_rf (mX45_begins a), va_rf (mX45_ends a), .int (mX45_words a), va_rf (mX45_need a), va_rf (mX45_told a), va_rf (mX45_threw a), .int (mX45_done a), .int (mX45_wrong a), .int (mX45_throwing a), va_rf (mX45_ledger a), .int (mX45_entries a)])) = (cSR ci d kd an ai al ar mX45_rooms mX45_calls mX45_names mX45_versions mX45_values mX45_proofs mX45_rights mX45_classes mX45_facets mX45_tables mX45_rules (va_up mX45_rewrite a v) mX45_disk mX45_tape mX45_size mX45_begins mX45_ends mX45_words mX45_need mX45_told mX45_threw mX45_done mX45_wrong mX45_throwing mX45_ledger mX45_entries mX46_texts) := by
  funext b
  by_cases h : b = a
  · subst h
    rw [va_up_self]
    unfold cSR
    rw [hk]
    simp only [va_up_self]
  · rw [va_up_ne _ _ h]
    unfold cSR
    simp only [va_up_ne _ _ h]
theorem cSR_1_12 {ci : Nat → Nat} {d : Nat → ClassId} {kd : Nat → Nat} {an : Nat → Nat} {ai : Nat → Nat → Int32} {al : Nat → Nat → Int64} {ar : Nat → Nat → Option Nat} {mX45_rooms : Nat → Option Nat} {mX45_calls : Nat → Option Nat} {mX45_names : Nat → Option Nat} {mX45_versions : Nat → Option Nat} {mX45_values : Nat → Option Nat} {mX45_proofs : Nat → Option Nat} {mX45_rights : Nat → Option Nat} {mX45_classes : Nat → Option Nat} {mX45_facets : Nat → Option Nat} {mX45_tables : Nat → Option Nat} {mX45_rules : Nat → Option Nat} {mX45_rewrite : Nat → Option Nat} {mX45_disk : Nat → Option Nat} {mX45_tape : Nat → Option Nat} {mX45_size : Nat → Int32} {mX45_begins : Nat → Option Nat} {mX45_ends : Nat → Option Nat} {mX45_words : Nat → Int32} {mX45_need : Nat → Option Nat} {mX45_told : Nat → Option Nat} {mX45_threw : Nat → Option Nat} {mX45_done : Nat → Int32} {mX45_wrong : Nat → Int32} {mX45_throwing : Nat → Int32} {mX45_ledger : Nat → Option Nat} {mX45_entries : Nat → Int32} {mX46_texts : Nat → Option Nat} {a : Nat} {v : Option Nat} (hk : kd a = 1) : va_up (cSR ci d kd an ai al ar mX45_rooms mX45_calls mX45_names mX45_versions mX45_values mX45_proofs mX45_rights mX45_classes mX45_facets mX45_tables mX45_rules mX45_rewrite mX45_disk mX45_tape mX45_size mX45_begins mX45_ends mX45_words mX45_need mX45_told mX45_threw mX45_done mX45_wrong mX45_throwing mX45_ledger mX45_entries mX46_texts) a (.inr (ci 0, [va_rf (mX45_rooms a), va_rf (mX45_calls a), va_rf (mX45_names a), va_rf (mX45_versions a), va_rf (mX45_values a), va_rf (mX45_proofs a), va_rf (mX45_rights a), va_rf (mX45_classes a), va_rf (mX45_facets a), va_rf (mX45_tables a), va_rf (mX45_rules a), va_rf (mX45_rewrite a), va_rf v, va_rf (mX45_tape a), .int (mX45_size a), va_rf (mX45_begins a), va_rf (mX45_ends a), .int (mX45_words a), va_rf (mX45_need a), va_rf (mX45_told a), va_rf (mX45_threw a), .int (mX45_done a), .int (mX45_wrong a), .int (mX45_throwing a), va_rf (mX45_ledger a), .int (mX45_entries a)])) = (cSR ci d kd an ai al ar mX45_rooms mX45_calls mX45_names mX45_versions mX45_values mX45_proofs mX45_rights mX45_classes mX45_facets mX45_tables mX45_rules mX45_rewrite (va_up mX45_disk a v) mX45_tape mX45_size mX45_begins mX45_ends mX45_words mX45_need mX45_told mX45_threw mX45_done mX45_wrong mX45_throwing mX45_ledger mX45_entries mX46_texts) := by
  funext b
  by_cases h : b = a
  · subst h
    rw [va_up_self]
    unfold cSR
    rw [hk]
    simp only [va_up_self]
  · rw [va_up_ne _ _ h]
    unfold cSR
    simp only [va_up_ne _ _ h]
theorem cSR_1_13 {ci : Nat → Nat} {d : Nat → ClassId} {kd : Nat → Nat} {an : Nat → Nat} {ai : Nat → Nat → Int32} {al : Nat → Nat → Int64} {ar : Nat → Nat → Option Nat} {mX45_rooms : Nat → Option Nat} {mX45_calls : Nat → Option Nat} {mX45_names : Nat → Option Nat} {mX45_versions : Nat → Option Nat} {mX45_values : Nat → Option Nat} {mX45_proofs : Nat → Option Nat} {mX45_rights : Nat → Option Nat} {mX45_classes : Nat → Option Nat} {mX45_facets : Nat → Option Nat} {mX45_tables : Nat → Option Nat} {mX45_rules : Nat → Option Nat} {mX45_rewrite : Nat → Option Nat} {mX45_disk : Nat → Option Nat} {mX45_tape : Nat → Option Nat} {mX45_size : Nat → Int32} {mX45_begins : Nat → Option Nat} {mX45_ends : Nat → Option Nat} {mX45_words : Nat → Int32} {mX45_need : Nat → Option Nat} {mX45_told : Nat → Option Nat} {mX45_threw : Nat → Option Nat} {mX45_done : Nat → Int32} {mX45_wrong : Nat → Int32} {mX45_throwing : Nat → Int32} {mX45_ledger : Nat → Option Nat} {mX45_entries : Nat → Int32} {mX46_texts : Nat → Option Nat} {a : Nat} {v : Option Nat} (hk : kd a = 1) : va_up (cSR ci d kd an ai al ar mX45_rooms mX45_calls mX45_names mX45_versions mX45_values mX45_proofs mX45_rights mX45_classes mX45_facets mX45_tables mX45_rules mX45_rewrite mX45_disk mX45_tape mX45_size mX45_begins mX45_ends mX45_words mX45_need mX45_told mX45_threw mX45_done mX45_wrong mX45_throwing mX45_ledger mX45_entries mX46_texts) a (.inr (ci 0, [va_rf (mX45_rooms a), va_rf (mX45_calls a), va_rf (mX45_names a), va_rf (mX45_versions a), va_rf (mX45_values a), va_rf (mX45_proofs a), va_rf (mX45_rights a), va_rf (mX45_classes a), va_rf (mX45_facets a), va_rf (mX45_tables a), va_rf (mX45_rules a), va_rf (mX45_rewrite a), va_rf (mX45_disk a), va_rf v, .int (mX45_size a), va_rf (mX45_begins a), va_rf (mX45_ends a), .int (mX45_words a), va_rf (mX45_need a), va_rf (mX45_told a), va_rf (mX45_threw a), .int (mX45_done a), .int (mX45_wrong a), .int (mX45_throwing a), va_rf (mX45_ledger a), .int (mX45_entries a)])) = (cSR ci d kd an ai al ar mX45_rooms mX45_calls mX45_names mX45_versions mX45_values mX45_proofs mX45_rights mX45_classes mX45_facets mX45_tables mX45_rules mX45_rewrite mX45_disk (va_up mX45_tape a v) mX45_size mX45_begins mX45_ends mX45_words mX45_need mX45_told mX45_threw mX45_done mX45_wrong mX45_throwing mX45_ledger mX45_entries mX46_texts) := by
  funext b
  by_cases h : b = a
  · subst h
    rw [va_up_self]
    unfold cSR
    rw [hk]
    simp only [va_up_self]
  · rw [va_up_ne _ _ h]
    unfold cSR
    simp only [va_up_ne _ _ h]
theorem cSR_1_14 {ci : Nat → Nat} {d : Nat → ClassId} {kd : Nat → Nat} {an : Nat → Nat} {ai : Nat → Nat → Int32} {al : Nat → Nat → Int64} {ar : Nat → Nat → Option Nat} {mX45_rooms : Nat → Option Nat} {mX45_calls : Nat → Option Nat} {mX45_names : Nat → Option Nat} {mX45_versions : Nat → Option Nat} {mX45_values : Nat → Option Nat} {mX45_proofs : Nat → Option Nat} {mX45_rights : Nat → Option Nat} {mX45_classes : Nat → Option Nat} {mX45_facets : Nat → Option Nat} {mX45_tables : Nat → Option Nat} {mX45_rules : Nat → Option Nat} {mX45_rewrite : Nat → Option Nat} {mX45_disk : Nat → Option Nat} {mX45_tape : Nat → Option Nat} {mX45_size : Nat → Int32} {mX45_begins : Nat → Option Nat} {mX45_ends : Nat → Option Nat} {mX45_words : Nat → Int32} {mX45_need : Nat → Option Nat} {mX45_told : Nat → Option Nat} {mX45_threw : Nat → Option Nat} {mX45_done : Nat → Int32} {mX45_wrong : Nat → Int32} {mX45_throwing : Nat → Int32} {mX45_ledger : Nat → Option Nat} {mX45_entries : Nat → Int32} {mX46_texts : Nat → Option Nat} {a : Nat} {v : Int32} (hk : kd a = 1) : va_up (cSR ci d kd an ai al ar mX45_rooms mX45_calls mX45_names mX45_versions mX45_values mX45_proofs mX45_rights mX45_classes mX45_facets mX45_tables mX45_rules mX45_rewrite mX45_disk mX45_tape mX45_size mX45_begins mX45_ends mX45_words mX45_need mX45_told mX45_threw mX45_done mX45_wrong mX45_throwing mX45_ledger mX45_entries mX46_texts) a (.inr (ci 0, [va_rf (mX45_rooms a), va_rf (mX45_calls a), va_rf (mX45_names a), va_rf (mX45_versions a), va_rf (mX45_values a), va_rf (mX45_proofs a), va_rf (mX45_rights a), va_rf (mX45_classes a), va_rf (mX45_facets a), va_rf (mX45_tables a), va_rf (mX45_rules a), va_rf (mX45_rewrite a), va_rf (mX45_disk a), va_rf (mX45_tape a), .int v, va_rf (mX45_begins a), va_rf (mX45_ends a), .int (mX45_words a), va_rf (mX45_need a), va_rf (mX45_told a), va_rf (mX45_threw a), .int (mX45_done a), .int (mX45_wrong a), .int (mX45_throwing a), va_rf (mX45_ledger a), .int (mX45_entries a)])) = (cSR ci d kd an ai al ar mX45_rooms mX45_calls mX45_names mX45_versions mX45_values mX45_proofs mX45_rights mX45_classes mX45_facets mX45_tables mX45_rules mX45_rewrite mX45_disk mX45_tape (va_up mX45_size a v) mX45_begins mX45_ends mX45_words mX45_need mX45_told mX45_threw mX45_done mX45_wrong mX45_throwing mX45_ledger mX45_entries mX46_texts) := by
  funext b
  by_cases h : b = a
  · subst h
    rw [va_up_self]
    unfold cSR
    rw [hk]
    simp only [va_up_self]
  · rw [va_up_ne _ _ h]
    unfold cSR
    simp only [va_up_ne _ _ h]
theorem cSR_1_15 {ci : Nat → Nat} {d : Nat → ClassId} {kd : Nat → Nat} {an : Nat → Nat} {ai : Nat → Nat → Int32} {al : Nat → Nat → Int64} {ar : Nat → Nat → Option Nat} {mX45_rooms : Nat → Option Nat} {mX45_calls : Nat → Option Nat} {mX45_names : Nat → Option Nat} {mX45_versions : Nat → Option Nat} {mX45_values : Nat → Option Nat} {mX45_proofs : Nat → Option Nat} {mX45_rights : Nat → Option Nat} {mX45_classes : Nat → Option Nat} {mX45_facets : Nat → Option Nat} {mX45_tables : Nat → Option Nat} {mX45_rules : Nat → Option Nat} {mX45_rewrite : Nat → Option Nat} {mX45_disk : Nat → Option Nat} {mX45_tape : Nat → Option Nat} {mX45_size : Nat → Int32} {mX45_begins : Nat → Option Nat} {mX45_ends : Nat → Option Nat} {mX45_words : Nat → Int32} {mX45_need : Nat → Option Nat} {mX45_told : Nat → Option Nat} {mX45_threw : Nat → Option Nat} {mX45_done : Nat → Int32} {mX45_wrong : Nat → Int32} {mX45_throwing : Nat → Int32} {mX45_ledger : Nat → Option Nat} {mX45_entries : Nat → Int32} {mX46_texts : Nat → Option Nat} {a : Nat} {v : Option Nat} (hk : kd a = 1) : va_up (cSR ci d kd an ai al ar mX45_rooms mX45_calls mX45_names mX45_versions mX45_values mX45_proofs mX45_rights mX45_classes mX45_facets mX45_tables mX45_rules mX45_rewrite mX45_disk mX45_tape mX45_size mX45_begins mX45_ends mX45_words mX45_need mX45_told mX45_threw mX45_done mX45_wrong mX45_throwing mX45_ledger mX45_entries mX46_texts) a (.inr (ci 0, [va_rf (mX45_rooms a), va_rf (mX45_calls a), va_rf (mX45_names a), va_rf (mX45_versions a), va_rf (mX45_values a), va_rf (mX45_proofs a), va_rf (mX45_rights a), va_rf (mX45_classes a), va_rf (mX45_facets a), va_rf (mX45_tables a), va_rf (mX45_rules a), va_rf (mX45_rewrite a), va_rf (mX45_disk a), va_rf (mX45_tape a), .int (mX45_size a), va_rf v, va_rf (mX45_ends a), .int (mX45_words a), va_rf (mX45_need a), va_rf (mX45_told a), va_rf (mX45_threw a), .int (mX45_done a), .int (mX45_wrong a), .int (mX45_throwing a), va_rf (mX45_ledger a), .int (mX45_entries a)])) = (cSR ci d kd an ai al ar mX45_rooms mX45_calls mX45_names mX45_versions mX45_values mX45_proofs mX45_rights mX45_classes mX45_facets mX45_tables mX45_rules mX45_rewrite mX45_disk mX45_tape mX45_size (va_up mX45_begins a v) mX45_ends mX45_words mX45_need mX45_told mX45_threw mX45_done mX45_wrong mX45_throwing mX45_ledger mX45_entries mX46_texts) := by
  funext b
  by_cases h : b = a
  · subst h
    rw [va_up_self]
    unfold cSR
    rw [hk]
    simp only [va_up_self]
  · rw [va_up_ne _ _ h]
    unfold cSR
    simp only [va_up_ne _ _ h]
theorem cSR_1_16 {ci : Nat → Nat} {d : Nat → ClassId} {kd : Nat → Nat} {an : Nat → Nat} {ai : Nat → Nat → Int32} {al : Nat → Nat → Int64} {ar : Nat → Nat → Option Nat} {mX45_rooms : Nat → Option Nat} {mX45_calls : Nat → Option Nat} {mX45_names : Nat → Option Nat} {mX45_versions : Nat → Option Nat} {mX45_values : Nat → Option Nat} {mX45_proofs : Nat → Option Nat} {mX45_rights : Nat → Option Nat} {mX45_classes : Nat → Option Nat} {mX45_facets : Nat → Option Nat} {mX45_tables : Nat → Option Nat} {mX45_rules : Nat → Option Nat} {mX45_rewrite : Nat → Option Nat} {mX45_disk : Nat → Option Nat} {mX45_tape : Nat → Option Nat} {mX45_size : Nat → Int32} {mX45_begins : Nat → Option Nat} {mX45_ends : Nat → Option Nat} {mX45_words : Nat → Int32} {mX45_need : Nat → Option Nat} {mX45_told : Nat → Option Nat} {mX45_threw : Nat → Option Nat} {mX45_done : Nat → Int32} {mX45_wrong : Nat → Int32} {mX45_throwing : Nat → Int32} {mX45_ledger : Nat → Option Nat} {mX45_entries : Nat → Int32} {mX46_texts : Nat → Option Nat} {a : Nat} {v : Option Nat} (hk : kd a = 1) : va_up (cSR ci d kd an ai al ar mX45_rooms mX45_calls mX45_names mX45_versions mX45_values mX45_proofs mX45_rights mX45_classes mX45_facets mX45_tables mX45_rules mX45_rewrite mX45_disk mX45_tape mX45_size mX45_begins mX45_ends mX45_words mX45_need mX45_told mX45_threw mX45_done mX45_wrong mX45_throwing mX45_ledger mX45_entries mX46_texts) a (.inr (ci 0, [va_rf (mX45_rooms a), va_rf (mX45_calls a), va_rf (mX45_names a), va_rf (mX45_versions a), va_rf (mX45_values a), va_rf (mX45_proofs a), va_rf (mX45_rights a), va_rf (mX45_classes a), va_rf (mX45_facets a), va_rf (mX45_tables a), va_rf (mX45_rules a), va_rf (mX45_rewrite a), va_rf (mX45_disk a), va_rf (mX45_tape a), .int (mX45_size a), va_rf (mX45_begins a), va_rf v, .int (mX45_words a), va_rf (mX45_need a), va_rf (mX45_told a), va_rf (mX45_threw a), .int (mX45_done a), .int (mX45_wrong a), .int (mX45_throwing a), va_rf (mX45_ledger a), .int (mX45_entries a)])) = (cSR ci d kd an ai al ar mX45_rooms mX45_calls mX45_names mX45_versions mX45_values mX45_proofs mX45_rights mX45_classes mX45_facets mX45_tables mX45_rules mX45_rewrite mX45_disk mX45_tape mX45_size mX45_begins (va_up mX45_ends a v) mX45_words mX45_need mX45_told mX45_threw mX45_done mX45_wrong mX45_throwing mX45_ledger mX45_entries mX46_texts) := by
  funext b
  by_cases h : b = a
  · subst h
    rw [va_up_self]
    unfold cSR
    rw [hk]
    simp only [va_up_self]
  · rw [va_up_ne _ _ h]
    unfold cSR
    simp only [va_up_ne _ _ h]
theorem cSR_1_17 {ci : Nat → Nat} {d : Nat → ClassId} {kd : Nat → Nat} {an : Nat → Nat} {ai : Nat → Nat → Int32} {al : Nat → Nat → Int64} {ar : Nat → Nat → Option Nat} {mX45_rooms : Nat → Option Nat} {mX45_calls : Nat → Option Nat} {mX45_names : Nat → Option Nat} {mX45_versions : Nat → Option Nat} {mX45_values : Nat → Option Nat} {mX45_proofs : Nat → Option Nat} {mX45_rights : Nat → Option Nat} {mX45_classes : Nat → Option Nat} {mX45_facets : Nat → Option Nat} {mX45_tables : Nat → Option Nat} {mX45_rules : Nat → Option Nat} {mX45_rewrite : Nat → Option Nat} {mX45_disk : Nat → Option Nat} {mX45_tape : Nat → Option Nat} {mX45_size : Nat → Int32} {mX45_begins : Nat → Option Nat} {mX45_ends : Nat → Option Nat} {mX45_words : Nat → Int32} {mX45_need : Nat → Option Nat} {mX45_told : Nat → Option Nat} {mX45_threw : Nat → Option Nat} {mX45_done : Nat → Int32} {mX45_wrong : Nat → Int32} {mX45_throwing : Nat → Int32} {mX45_ledger : Nat → Option Nat} {mX45_entries : Nat → Int32} {mX46_texts : Nat → Option Nat} {a : Nat} {v : Int32} (hk : kd a = 1) : va_up (cSR ci d kd an ai al ar mX45_rooms mX45_calls mX45_names mX45_versions mX45_values mX45_proofs mX45_rights mX45_classes mX45_facets mX45_tables mX45_rules mX45_rewrite mX45_disk mX45_tape mX45_size mX45_begins mX45_ends mX45_words mX45_need mX45_told mX45_threw mX45_done mX45_wrong mX45_throwing mX45_ledger mX45_entries mX46_texts) a (.inr (ci 0, [va_rf (mX45_rooms a), va_rf (mX45_calls a), va_rf (mX45_names a), va_rf (mX45_versions a), va_rf (mX45_values a), va_rf (mX45_proofs a), va_rf (mX45_rights a), va_rf (mX45_classes a), va_rf (mX45_facets a), va_rf (mX45_tables a), va_rf (mX45_rules a), va_rf (mX45_rewrite a), va_rf (mX45_disk a), va_rf (mX45_tape a), .int (mX45_size a), va_rf (mX45_begins a), va_rf (mX45_ends a), .int v, va_rf (mX45_need a), va_rf (mX45_told a), va_rf (mX45_threw a), .int (mX45_done a), .int (mX45_wrong a), .int (mX45_throwing a), va_rf (mX45_ledger a), .int (mX45_entries a)])) = (cSR ci d kd an ai al ar mX45_rooms mX45_calls mX45_names mX45_versions mX45_values mX45_proofs mX45_rights mX45_classes mX45_facets mX45_tables mX45_rules mX45_rewrite mX45_disk mX45_tape mX45_size mX45_begins mX45_ends (va_up mX45_words a v) mX45_need mX45_told mX45_threw mX45_done mX45_wrong mX45_throwing mX45_ledger mX45_entries mX46_texts) := by
  funext b
  by_cases h : b = a
  · subst h
    rw [va_up_self]
    unfold cSR
    rw [hk]
    simp only [va_up_self]
  · rw [va_up_ne _ _ h]
    unfold cSR
    simp only [va_up_ne _ _ h]
theorem cSR_1_18 {ci : Nat → Nat} {d : Nat → ClassId} {kd : Nat → Nat} {an : Nat → Nat} {ai : Nat → Nat → Int32} {al : Nat → Nat → Int64} {ar : Nat → Nat → Option Nat} {mX45_rooms : Nat → Option Nat} {mX45_calls : Nat → Option Nat} {mX45_names : Nat → Option Nat} {mX45_versions : Nat → Option Nat} {mX45_values : Nat → Option Nat} {mX45_proofs : Nat → Option Nat} {mX45_rights : Nat → Option Nat} {mX45_classes : Nat → Option Nat} {mX45_facets : Nat → Option Nat} {mX45_tables : Nat → Option Nat} {mX45_rules : Nat → Option Nat} {mX45_rewrite : Nat → Option Nat} {mX45_disk : Nat → Option Nat} {mX45_tape : Nat → Option Nat} {mX45_size : Nat → Int32} {mX45_begins : Nat → Option Nat} {mX45_ends : Nat → Option Nat} {mX45_words : Nat → Int32} {mX45_need : Nat → Option Nat} {mX45_told : Nat → Option Nat} {mX45_threw : Nat → Option Nat} {mX45_done : Nat → Int32} {mX45_wrong : Nat → Int32} {mX45_throwing : Nat → Int32} {mX45_ledger : Nat → Option Nat} {mX45_entries : Nat → Int32} {mX46_texts : Nat → Option Nat} {a : Nat} {v : Option Nat} (hk : kd a = 1) : va_up (cSR ci d kd an ai al ar mX45_rooms mX45_calls mX45_names mX45_versions mX45_values mX45_proofs mX45_rights mX45_classes mX45_facets mX45_tables mX45_rules mX45_rewrite mX45_disk mX45_tape mX45_size mX45_begins mX45_ends mX45_words mX45_need mX45_told mX45_threw mX45_done mX45_wrong mX45_throwing mX45_ledger mX45_entries mX46_texts) a (.inr (ci 0, [va_rf (mX45_rooms a), va_rf (mX45_calls a), va_rf (mX45_names a), va_rf (mX45_versions a), va_rf (mX45_values a), va_rf (mX45_proofs a), va_rf (mX45_rights a), va_rf (mX45_classes a), va_rf (mX45_facets a), va_rf (mX45_tables a), va_rf (mX45_rules a), va_rf (mX45_rewrite a), va_rf (mX45_disk a), va_rf (mX45_tape a), .int (mX45_size a), va_rf (mX45_begins a), va_rf (mX45_ends a), .int (mX45_words a), va_rf v, va_rf (mX45_told a), va_rf (mX45_threw a), .int (mX45_done a), .int (mX45_wrong a), .int (mX45_throwing a), va_rf (mX45_ledger a), .int (mX45_entries a)])) = (cSR ci d kd an ai al ar mX45_rooms mX45_calls mX45_names mX45_versions mX45_values mX45_proofs mX45_rights mX45_classes mX45_facets mX45_tables mX45_rules mX45_rewrite mX45_disk mX45_tape mX45_size mX45_begins mX45_ends mX45_words (va_up mX45_need a v) mX45_told mX45_threw mX45_done mX45_wrong mX45_throwing mX45_ledger mX45_entries mX46_texts) := by
  funext b
  by_cases h : b = a
  · subst h
    rw [va_up_self]
    unfold cSR
    rw [hk]
    simp only [va_up_self]
  · rw [va_up_ne _ _ h]
    unfold cSR
    simp only [va_up_ne _ _ h]
theorem cSR_1_19 {ci : Nat → Nat} {d : Nat → ClassId} {kd : Nat → Nat} {an : Nat → Nat} {ai : Nat → Nat → Int32} {al : Nat → Nat → Int64} {ar : Nat → Nat → Option Nat} {mX45_rooms : Nat → Option Nat} {mX45_calls : Nat → Option Nat} {mX45_names : Nat → Option Nat} {mX45_versions : Nat → Option Nat} {mX45_values : Nat → Option Nat} {mX45_proofs : Nat → Option Nat} {mX45_rights : Nat → Option Nat} {mX45_classes : Nat → Option Nat} {mX45_facets : Nat → Option Nat} {mX45_tables : Nat → Option Nat} {mX45_rules : Nat → Option Nat} {mX45_rewrite : Nat → Option Nat} {mX45_disk : Nat → Option Nat} {mX45_tape : Nat → Option Nat} {mX45_size : Nat → Int32} {mX45_begins : Nat → Option Nat} {mX45_ends : Nat → Option Nat} {mX45_words : Nat → Int32} {mX45_need : Nat → Option Nat} {mX45_told : Nat → Option Nat} {mX45_threw : Nat → Option Nat} {mX45_done : Nat → Int32} {mX45_wrong : Nat → Int32} {mX45_throwing : Nat → Int32} {mX45_ledger : Nat → Option Nat} {mX45_entries : Nat → Int32} {mX46_texts : Nat → Option Nat} {a : Nat} {v : Option Nat} (hk : kd a = 1) : va_up (cSR ci d kd an ai al ar mX45_rooms mX45_calls mX45_names mX45_versions mX45_values mX45_proofs mX45_rights mX45_classes mX45_facets mX45_tables mX45_rules mX45_rewrite mX45_disk mX45_tape mX45_size mX45_begins mX45_ends mX45_words mX45_need mX45_told mX45_threw mX45_done mX45_wrong mX45_throwing mX45_ledger mX45_entries mX46_texts) a (.inr (ci 0, [va_rf (mX45_rooms a), va_rf (mX45_calls a), va_rf (mX45_names a), va_rf (mX45_versions a), va_rf (mX45_values a), va_rf (mX45_proofs a), va_rf (mX45_rights a), va_rf (mX45_classes a), va_rf (mX45_facets a), va_rf (mX45_tables a), va_rf (mX45_rules a), va_rf (mX45_rewrite a), va_rf (mX45_disk a), va_rf (mX45_tape a), .int (mX45_size a), va_rf (mX45_begins a), va_rf (mX45_ends a), .int (mX45_words a), va_rf (mX45_need a), va_rf v, va_rf (mX45_threw a), .int (mX45_done a), .int (mX45_wrong a), .int (mX45_throwing a), va_rf (mX45_ledger a), .int (mX45_entries a)])) = (cSR ci d kd an ai al ar mX45_rooms mX45_calls mX45_names mX45_versions mX45_values mX45_proofs mX45_rights mX45_classes mX45_facets mX45_tables mX45_rules mX45_rewrite mX45_disk mX45_tape mX45_size mX45_begins mX45_ends mX45_words mX45_need (va_up mX45_told a v) mX45_threw mX45_done mX45_wrong mX45_throwing mX45_ledger mX45_entries mX46_texts) := by
  funext b
  by_cases h : b = a
  · subst h
    rw [va_up_self]
    unfold cSR
    rw [hk]
    simp only [va_up_self]
  · rw [va_up_ne _ _ h]
    unfold cSR
    simp only [va_up_ne _ _ h]
theorem cSR_1_20 {ci : Nat → Nat} {d : Nat → ClassId} {kd : Nat → Nat} {an : Nat → Nat} {ai : Nat → Nat → Int32} {al : Nat → Nat → Int64} {ar : Nat → Nat → Option Nat} {mX45_rooms : Nat → Option Nat} {mX45_calls : Nat → Option Nat} {mX45_names : Nat → Option Nat} {mX45_versions : Nat → Option Nat} {mX45_values : Nat → Option Nat} {mX45_proofs : Nat → Option Nat} {mX45_rights : Nat → Option Nat} {mX45_classes : Nat → Option Nat} {mX45_facets : Nat → Option Nat} {mX45_tables : Nat → Option Nat} {mX45_rules : Nat → Option Nat} {mX45_rewrite : Nat → Option Nat} {mX45_disk : Nat → Option Nat} {mX45_tape : Nat → Option Nat} {mX45_size : Nat → Int32} {mX45_begins : Nat → Option Nat} {mX45_ends : Nat → Option Nat} {mX45_words : Nat → Int32} {mX45_need : Nat → Option Nat} {mX45_told : Nat → Option Nat} {mX45_threw : Nat → Option Nat} {mX45_done : Nat → Int32} {mX45_wrong : Nat → Int32} {mX45_throwing : Nat → Int32} {mX45_ledger : Nat → Option Nat} {mX45_entries : Nat → Int32} {mX46_texts : Nat → Option Nat} {a : Nat} {v : Option Nat} (hk : kd a = 1) : va_up (cSR ci d kd an ai al ar mX45_rooms mX45_calls mX45_names mX45_versions mX45_values mX45_proofs mX45_rights mX45_classes mX45_facets mX45_tables mX45_rules mX45_rewrite mX45_disk mX45_tape mX45_size mX45_begins mX45_ends mX45_words mX45_need mX45_told mX45_threw mX45_done mX45_wrong mX45_throwing mX45_ledger mX45_entries mX46_texts) a (.inr (ci 0, [va_rf (mX45_rooms a), va_rf (mX45_calls a), va_rf (mX45_names a), va_rf (mX45_versions a), va_rf (mX45_values a), va_rf (mX45_proofs a), va_rf (mX45_rights a), va_rf (mX45_classes a), va_rf (mX45_facets a), va_rf (mX45_tables a), va_rf (mX45_rules a), va_rf (mX45_rewrite a), va_rf (mX45_disk a), va_rf (mX45_tape a), .int (mX45_size a), va_rf (mX45_begins a), va_rf (mX45_ends a), .int (mX45_words a), va_rf (mX45_need a), va_rf (mX45_told a), va_rf v, .int (mX45_done a), .int (mX45_wrong a), .int (mX45_throwing a), va_rf (mX45_ledger a), .int (mX45_entries a)])) = (cSR ci d kd an ai al ar mX45_rooms mX45_calls mX45_names mX45_versions mX45_values mX45_proofs mX45_rights mX45_classes mX45_facets mX45_tables mX45_rules mX45_rewrite mX45_disk mX45_tape mX45_size mX45_begins mX45_ends mX45_words mX45_need mX45_told (va_up mX45_threw a v) mX45_done mX45_wrong mX45_throwing mX45_ledger mX45_entries mX46_texts) := by
  funext b
  by_cases h : b = a
  · subst h
    rw [va_up_self]
    unfold cSR
    rw [hk]
    simp only [va_up_self]
  · rw [va_up_ne _ _ h]
    unfold cSR
    simp only [va_up_ne _ _ h]
theorem cSR_1_21 {ci : Nat → Nat} {d : Nat → ClassId} {kd : Nat → Nat} {an : Nat → Nat} {ai : Nat → Nat → Int32} {al : Nat → Nat → Int64} {ar : Nat → Nat → Option Nat} {mX45_rooms : Nat → Option Nat} {mX45_calls : Nat → Option Nat} {mX45_names : Nat → Option Nat} {mX45_versions : Nat → Option Nat} {mX45_values : Nat → Option Nat} {mX45_proofs : Nat → Option Nat} {mX45_rights : Nat → Option Nat} {mX45_classes : Nat → Option Nat} {mX45_facets : Nat → Option Nat} {mX45_tables : Nat → Option Nat} {mX45_rules : Nat → Option Nat} {mX45_rewrite : Nat → Option Nat} {mX45_disk : Nat → Option Nat} {mX45_tape : Nat → Option Nat} {mX45_size : Nat → Int32} {mX45_begins : Nat → Option Nat} {mX45_ends : Nat → Option Nat} {mX45_words : Nat → Int32} {mX45_need : Nat → Option Nat} {mX45_told : Nat → Option Nat} {mX45_threw : Nat → Option Nat} {mX45_done : Nat → Int32} {mX45_wrong : Nat → Int32} {mX45_throwing : Nat → Int32} {mX45_ledger : Nat → Option Nat} {mX45_entries : Nat → Int32} {mX46_texts : Nat → Option Nat} {a : Nat} {v : Int32} (hk : kd a = 1) : va_up (cSR ci d kd an ai al ar mX45_rooms mX45_calls mX45_names mX45_versions mX45_values mX45_proofs mX45_rights mX45_classes mX45_facets mX45_tables mX45_rules mX45_rewrite mX45_disk mX45_tape mX45_size mX45_begins mX45_ends mX45_words mX45_need mX45_told mX45_threw mX45_done mX45_wrong mX45_throwing mX45_ledger mX45_entries mX46_texts) a (.inr (ci 0, [va_rf (mX45_rooms a), va_rf (mX45_calls a), va_rf (mX45_names a), va_rf (mX45_versions a), va_rf (mX45_values a), va_rf (mX45_proofs a), va_rf (mX45_rights a), va_rf (mX45_classes a), va_rf (mX45_facets a), va_rf (mX45_tables a), va_rf (mX45_rules a), va_rf (mX45_rewrite a), va_rf (mX45_disk a), va_rf (mX45_tape a), .int (mX45_size a), va_rf (mX45_begins a), va_rf (mX45_ends a), .int (mX45_words a), va_rf (mX45_need a), va_rf (mX45_told a), va_rf (mX45_threw a), .int v, .int (mX45_wrong a), .int (mX45_throwing a), va_rf (mX45_ledger a), .int (mX45_entries a)])) = (cSR ci d kd an ai al ar mX45_rooms mX45_calls mX45_names mX45_versions mX45_values mX45_proofs mX45_rights mX45_classes mX45_facets mX45_tables mX45_rules mX45_rewrite mX45_disk mX45_tape mX45_size mX45_begins mX45_ends mX45_words mX45_need mX45_told mX45_threw (va_up mX45_done a v) mX45_wrong mX45_throwing mX45_ledger mX45_entries mX46_texts) := by
  funext b
  by_cases h : b = a
  · subst h
    rw [va_up_self]
    unfold cSR
    rw [hk]
    simp only [va_up_self]
  · rw [va_up_ne _ _ h]
    unfold cSR
    simp only [va_up_ne _ _ h]
theorem cSR_1_22 {ci : Nat → Nat} {d : Nat → ClassId} {kd : Nat → Nat} {an : Nat → Nat} {ai : Nat → Nat → Int32} {al : Nat → Nat → Int64} {ar : Nat → Nat → Option Nat} {mX45_rooms : Nat → Option Nat} {mX45_calls : Nat → Option Nat} {mX45_names : Nat → Option Nat} {mX45_versions : Nat → Option Nat} {mX45_values : Nat → Option Nat} {mX45_proofs : Nat → Option Nat} {mX45_rights : Nat → Option Nat} {mX45_classes : Nat → Option Nat} {mX45_facets : Nat → Option Nat} {mX45_tables : Nat → Option Nat} {mX45_rules : Nat → Option Nat} {mX45_rewrite : Nat → Option Nat} {mX45_disk : Nat → Option Nat} {mX45_tape : Nat → Option Nat} {mX45_size : Nat → Int32} {mX45_begins : Nat → Option Nat} {mX45_ends : Nat → Option Nat} {mX45_words : Nat → Int32} {mX45_need : Nat → Option Nat} {mX45_told : Nat → Option Nat} {mX45_threw : Nat → Option Nat} {mX45_done : Nat → Int32} {mX45_wrong : Nat → Int32} {mX45_throwing : Nat → Int32} {mX45_ledger : Nat → Option Nat} {mX45_entries : Nat → Int32} {mX46_texts : Nat → Option Nat} {a : Nat} {v : Int32} (hk : kd a = 1) : va_up (cSR ci d kd an ai al ar mX45_rooms mX45_calls mX45_names mX45_versions mX45_values mX45_proofs mX45_rights mX45_classes mX45_facets mX45_tables mX45_rules mX45_rewrite mX45_disk mX45_tape mX45_size mX45_begins mX45_ends mX45_words mX45_need mX45_told mX45_threw mX45_done mX45_wrong mX45_throwing mX45_ledger mX45_entries mX46_texts) a (.inr (ci 0, [va_rf (mX45_rooms a), va_rf (mX45_calls a), va_rf (mX45_names a), va_rf (mX45_versions a), va_rf (mX45_values a), va_rf (mX45_proofs a), va_rf (mX45_rights a), va_rf (mX45_classes a), va_rf (mX45_facets a), va_rf (mX45_tables a), va_rf (mX45_rules a), va_rf (mX45_rewrite a), va_rf (mX45_disk a), va_rf (mX45_tape a), .int (mX45_size a), va_rf (mX45_begins a), va_rf (mX45_ends a), .int (mX45_words a), va_rf (mX45_need a), va_rf (mX45_told a), va_rf (mX45_threw a), .int (mX45_done a), .int v, .int (mX45_throwing a), va_rf (mX45_ledger a), .int (mX45_entries a)])) = (cSR ci d kd an ai al ar mX45_rooms mX45_calls mX45_names mX45_versions mX45_values mX45_proofs mX45_rights mX45_classes mX45_facets mX45_tables mX45_rules mX45_rewrite mX45_disk mX45_tape mX45_size mX45_begins mX45_ends mX45_words mX45_need mX45_told mX45_threw mX45_done (va_up mX45_wrong a v) mX45_throwing mX45_ledger mX45_entries mX46_texts) := by
  funext b
  by_cases h : b = a
  · subst h
    rw [va_up_self]
    unfold cSR
    rw [hk]
    simp only [va_up_self]
  · rw [va_up_ne _ _ h]
    unfold cSR
    simp only [va_up_ne _ _ h]
theorem cSR_1_23 {ci : Nat → Nat} {d : Nat → ClassId} {kd : Nat → Nat} {an : Nat → Nat} {ai : Nat → Nat → Int32} {al : Nat → Nat → Int64} {ar : Nat → Nat → Option Nat} {mX45_rooms : Nat → Option Nat} {mX45_calls : Nat → Option Nat} {mX45_names : Nat → Option Nat} {mX45_versions : Nat → Option Nat} {mX45_values : Nat → Option Nat} {mX45_proofs : Nat → Option Nat} {mX45_rights : Nat → Option Nat} {mX45_classes : Nat → Option Nat} {mX45_facets : Nat → Option Nat} {mX45_tables : Nat → Option Nat} {mX45_rules : Nat → Option Nat} {mX45_rewrite : Nat → Option Nat} {mX45_disk : Nat → Option Nat} {mX45_tape : Nat → Option Nat} {mX45_size : Nat → Int32} {mX45_begins : Nat → Option Nat} {mX45_ends : Nat → Option Nat} {mX45_words : Nat → Int32} {mX45_need : Nat → Option Nat} {mX45_told : Nat → Option Nat} {mX45_threw : Nat → Option Nat} {mX45_done : Nat → Int32} {mX45_wrong : Nat → Int32} {mX45_throwing : Nat → Int32} {mX45_ledger : Nat → Option Nat} {mX45_entries : Nat → Int32} {mX46_texts : Nat → Option Nat} {a : Nat} {v : Int32} (hk : kd a = 1) : va_up (cSR ci d kd an ai al ar mX45_rooms mX45_calls mX45_names mX45_versions mX45_values mX45_proofs mX45_rights mX45_classes mX45_facets mX45_tables mX45_rules mX45_rewrite mX45_disk mX45_tape mX45_size mX45_begins mX45_ends mX45_words mX45_need mX45_told mX45_threw mX45_done mX45_wrong mX45_throwing mX45_ledger mX45_entries mX46_texts) a (.inr (ci 0, [va_rf (mX45_rooms a), va_rf (mX45_calls a), va_rf (mX45_names a), va_rf (mX45_versions a), va_rf (mX45_values a), va_rf (mX45_proofs a), va_rf (mX45_rights a), va_rf (mX45_classes a), va_rf (mX45_facets a), va_rf (mX45_tables a), va_rf (mX45_rules a), va_rf (mX45_rewrite a), va_rf (mX45_disk a), va_rf (mX45_tape a), .int (mX45_size a), va_rf (mX45_begins a), va_rf (mX45_ends a), .int (mX45_words a), va_rf (mX45_need a), va_rf (mX45_told a), va_rf (mX45_threw a), .int (mX45_done a), .int (mX45_wrong a), .int v, va_rf (mX45_ledger a), .int (mX45_entries a)])) = (cSR ci d kd an ai al ar mX45_rooms mX45_calls mX45_names mX45_versions mX45_values mX45_proofs mX45_rights mX45_classes mX45_facets mX45_tables mX45_rules mX45_rewrite mX45_disk mX45_tape mX45_size mX45_begins mX45_ends mX45_words mX45_need mX45_told mX45_threw mX45_done mX45_wrong (va_up mX45_throwing a v) mX45_ledger mX45_entries mX46_texts) := by
  funext b
  by_cases h : b = a
  · subst h
    rw [va_up_self]
    unfold cSR
    rw [hk]
    simp only [va_up_self]
  · rw [va_up_ne _ _ h]
    unfold cSR
    simp only [va_up_ne _ _ h]
theorem cSR_1_24 {ci : Nat → Nat} {d : Nat → ClassId} {kd : Nat → Nat} {an : Nat → Nat} {ai : Nat → Nat → Int32} {al : Nat → Nat → Int64} {ar : Nat → Nat → Option Nat} {mX45_rooms : Nat → Option Nat} {mX45_calls : Nat → Option Nat} {mX45_names : Nat → Option Nat} {mX45_versions : Nat → Option Nat} {mX45_values : Nat → Option Nat} {mX45_proofs : Nat → Option Nat} {mX45_rights : Nat → Option Nat} {mX45_classes : Nat → Option Nat} {mX45_facets : Nat → Option Nat} {mX45_tables : Nat → Option Nat} {mX45_rules : Nat → Option Nat} {mX45_rewrite : Nat → Option Nat} {mX45_disk : Nat → Option Nat} {mX45_tape : Nat → Option Nat} {mX45_size : Nat → Int32} {mX45_begins : Nat → Option Nat} {mX45_ends : Nat → Option Nat} {mX45_words : Nat → Int32} {mX45_need : Nat → Option Nat} {mX45_told : Nat → Option Nat} {mX45_threw : Nat → Option Nat} {mX45_done : Nat → Int32} {mX45_wrong : Nat → Int32} {mX45_throwing : Nat → Int32} {mX45_ledger : Nat → Option Nat} {mX45_entries : Nat → Int32} {mX46_texts : Nat → Option Nat} {a : Nat} {v : Option Nat} (hk : kd a = 1) : va_up (cSR ci d kd an ai al ar mX45_rooms mX45_calls mX45_names mX45_versions mX45_values mX45_proofs mX45_rights mX45_classes mX45_facets mX45_tables mX45_rules mX45_rewrite mX45_disk mX45_tape mX45_size mX45_begins mX45_ends mX45_words mX45_need mX45_told mX45_threw mX45_done mX45_wrong mX45_throwing mX45_ledger mX45_entries mX46_texts) a (.inr (ci 0, [va_rf (mX45_rooms a), va_rf (mX45_calls a), va_rf (mX45_names a), va_rf (mX45_versions a), va_rf (mX45_values a), va_rf (mX45_proofs a), va_rf (mX45_rights a), va_rf (mX45_classes a), va_rf (mX45_facets a), va_rf (mX45_tables a), va_rf (mX45_rules a), va_rf (mX45_rewrite a), va_rf (mX45_disk a), va_rf (mX45_tape a), .int (mX45_size a), va_rf (mX45_begins a), va_rf (mX45_ends a), .int (mX45_words a), va_rf (mX45_need a), va_rf (mX45_told a), va_rf (mX45_threw a), .int (mX45_done a), .int (mX45_wrong a), .int (mX45_throwing a), va_rf v, .int (mX45_entries a)])) = (cSR ci d kd an ai al ar mX45_rooms mX45_calls mX45_names mX45_versions mX45_values mX45_proofs mX45_rights mX45_classes mX45_facets mX45_tables mX45_rules mX45_rewrite mX45_disk mX45_tape mX45_size mX45_begins mX45_ends mX45_words mX45_need mX45_told mX45_threw mX45_done mX45_wrong mX45_throwing (va_up mX45_ledger a v) mX45_entries mX46_texts) := by
  funext b
  by_cases h : b = a
  · subst h
    rw [va_up_self]
    unfold cSR
    rw [hk]
    simp only [va_up_self]
  · rw [va_up_ne _ _ h]
    unfold cSR
    simp only [va_up_ne _ _ h]
theorem cSR_1_25 {ci : Nat → Nat} {d : Nat → ClassId} {kd : Nat → Nat} {an : Nat → Nat} {ai : Nat → Nat → Int32} {al : Nat → Nat → Int64} {ar : Nat → Nat → Option Nat} {mX45_rooms : Nat → Option Nat} {mX45_calls : Nat → Option Nat} {mX45_names : Nat → Option Nat} {mX45_versions : Nat → Option Nat} {mX45_values : Nat → Option Nat} {mX45_proofs : Nat → Option Nat} {mX45_rights : Nat → Option Nat} {mX45_classes : Nat → Option Nat} {mX45_facets : Nat → Option Nat} {mX45_tables : Nat → Option Nat} {mX45_rules : Nat → Option Nat} {mX45_rewrite : Nat → Option Nat} {mX45_disk : Nat → Option Nat} {mX45_tape : Nat → Option Nat} {mX45_size : Nat → Int32} {mX45_begins : Nat → Option Nat} {mX45_ends : Nat → Option Nat} {mX45_words : Nat → Int32} {mX45_need : Nat → Option Nat} {mX45_told : Nat → Option Nat} {mX45_threw : Nat → Option Nat} {mX45_done : Nat → Int32} {mX45_wrong : Nat → Int32} {mX45_throwing : Nat → Int32} {mX45_ledger : Nat → Option Nat} {mX45_entries : Nat → Int32} {mX46_texts : Nat → Option Nat} {a : Nat} {v : Int32} (hk : kd a = 1) : va_up (cSR ci d kd an ai al ar mX45_rooms mX45_calls mX45_names mX45_versions mX45_values mX45_proofs mX45_rights mX45_classes mX45_facets mX45_tables mX45_rules mX45_rewrite mX45_disk mX45_tape mX45_size mX45_begins mX45_ends mX45_words mX45_need mX45_told mX45_threw mX45_done mX45_wrong mX45_throwing mX45_ledger mX45_entries mX46_texts) a (.inr (ci 0, [va_rf (mX45_rooms a), va_rf (mX45_calls a), va_rf (mX45_names a), va_rf (mX45_versions a), va_rf (mX45_values a), va_rf (mX45_proofs a), va_rf (mX45_rights a), va_rf (mX45_classes a), va_rf (mX45_facets a), va_rf (mX45_tables a), va_rf (mX45_rules a), va_rf (mX45_rewrite a), va_rf (mX45_disk a), va_rf (mX45_tape a), .int (mX45_size a), va_rf (mX45_begins a), va_rf (mX45_ends a), .int (mX45_words a), va_rf (mX45_need a), va_rf (mX45_told a), va_rf (mX45_threw a), .int (mX45_done a), .int (mX45_wrong a), .int (mX45_throwing a), va_rf (mX45_ledger a), .int v])) = (cSR ci d kd an ai al ar mX45_rooms mX45_calls mX45_names mX45_versions mX45_values mX45_proofs mX45_rights mX45_classes mX45_facets mX45_tables mX45_rules mX45_rewrite mX45_disk mX45_tape mX45_size mX45_begins mX45_ends mX45_words mX45_need mX45_told mX45_threw mX45_done mX45_wrong mX45_throwing mX45_ledger (va_up mX45_entries a v) mX46_texts) := by
  funext b
  by_cases h : b = a
  · subst h
    rw [va_up_self]
    unfold cSR
    rw [hk]
    simp only [va_up_self]
  · rw [va_up_ne _ _ h]
    unfold cSR
    simp only [va_up_ne _ _ h]
theorem cSR_1_n {ci : Nat → Nat} {d : Nat → ClassId} {kd : Nat → Nat} {an : Nat → Nat} {ai : Nat → Nat → Int32} {al : Nat → Nat → Int64} {ar : Nat → Nat → Option Nat} {mX45_rooms : Nat → Option Nat} {mX45_calls : Nat → Option Nat} {mX45_names : Nat → Option Nat} {mX45_versions : Nat → Option Nat} {mX45_values : Nat → Option Nat} {mX45_proofs : Nat → Option Nat} {mX45_rights : Nat → Option Nat} {mX45_classes : Nat → Option Nat} {mX45_facets : Nat → Option Nat} {mX45_tables : Nat → Option Nat} {mX45_rules : Nat → Option Nat} {mX45_rewrite : Nat → Option Nat} {mX45_disk : Nat → Option Nat} {mX45_tape : Nat → Option Nat} {mX45_size : Nat → Int32} {mX45_begins : Nat → Option Nat} {mX45_ends : Nat → Option Nat} {mX45_words : Nat → Int32} {mX45_need : Nat → Option Nat} {mX45_told : Nat → Option Nat} {mX45_threw : Nat → Option Nat} {mX45_done : Nat → Int32} {mX45_wrong : Nat → Int32} {mX45_throwing : Nat → Int32} {mX45_ledger : Nat → Option Nat} {mX45_entries : Nat → Int32} {mX46_texts : Nat → Option Nat} (q : Nat) : va_up (cSR ci d kd an ai al ar mX45_rooms mX45_calls mX45_names mX45_versions mX45_values mX45_proofs mX45_rights mX45_classes mX45_facets mX45_tables mX45_rules mX45_rewrite mX45_disk mX45_tape mX45_size mX45_begins mX45_ends mX45_words mX45_need mX45_told mX45_threw mX45_done mX45_wrong mX45_throwing mX45_ledger mX45_entries mX46_texts) q (.inr (ci 0, [va_rf none, va_rf none, va_rf none, va_rf none, va_rf none, va_rf none, va_rf none, va_rf none, va_rf none, va_rf none, va_rf none, va_rf none, va_rf none, va_rf none, .int 0, va_rf none, va_rf none, .int 0, va_rf none, va_rf none, va_rf none, .int 0, .int 0, .int 0, va_rf none, .int 0])) = (cSR ci d (va_up kd q 1) an ai al ar (va_up mX45_rooms q none) (va_up mX45_calls q none) (va_up mX45_names q none) (va_up mX45_versions q none) (va_up mX45_values q none) (va_up mX45_proofs q none) (va_up mX45_rights q none) (va_up mX45_classes q none) (va_up mX45_facets q none) (va_up mX45_tables q none) (va_up mX45_rules q none) (va_up mX45_rewrite q none) (va_up mX45_disk q none) (va_up mX45_tape q none) (va_up mX45_size q 0) (va_up mX45_begins q none) (va_up mX45_ends q none) (va_up mX45_words q 0) (va_up mX45_need q none) (va_up mX45_told q none) (va_up mX45_threw q none) (va_up mX45_done q 0) (va_up mX45_wrong q 0) (va_up mX45_throwing q 0) (va_up mX45_ledger q none) (va_up mX45_entries q 0) mX46_texts) := by
  funext b
  by_cases h : b = q
  · subst h
    rw [va_up_self]
    unfold cSR
    simp only [va_up_self]
  · rw [va_up_ne _ _ h]
    unfold cSR
    simp only [va_up_ne _ _ h]
theorem cSR_2 {ci : Nat → Nat} {d : Nat → ClassId} {kd : Nat → Nat} {an : Nat → Nat} {ai : Nat → Nat → Int32} {al : Nat → Nat → Int64} {ar : Nat → Nat → Option Nat} {mX45_rooms : Nat → Option Nat} {mX45_calls : Nat → Option Nat} {mX45_names : Nat → Option Nat} {mX45_versions : Nat → Option Nat} {mX45_values : Nat → Option Nat} {mX45_proofs : Nat → Option Nat} {mX45_rights : Nat → Option Nat} {mX45_classes : Nat → Option Nat} {mX45_facets : Nat → Option Nat} {mX45_tables : Nat → Option Nat} {mX45_rules : Nat → Option Nat} {mX45_rewrite : Nat → Option Nat} {mX45_disk : Nat → Option Nat} {mX45_tape : Nat → Option Nat} {mX45_size : Nat → Int32} {mX45_begins : Nat → Option Nat} {mX45_ends : Nat → Option Nat} {mX45_words : Nat → Int32} {mX45_need : Nat → Option Nat} {mX45_told : Nat → Option Nat} {mX45_threw : Nat → Option Nat} {mX45_done : Nat → Int32} {mX45_wrong : Nat → Int32} {mX45_throwing : Nat → Int32} {mX45_ledger : Nat → Option Nat} {mX45_entries : Nat → Int32} {mX46_texts : Nat → Option Nat} {a : Nat} (hk : kd a = 2) : (cSR ci d kd an ai al ar mX45_rooms mX45_calls mX45_names mX45_versions mX45_values mX45_proofs mX45_rights mX45_classes mX45_facets mX45_tables mX45_rules mX45_rewrite mX45_disk mX45_tape mX45_size mX45_begins mX45_ends mX45_words mX45_need mX45_told mX45_threw mX45_done mX45_wrong mX45_throwing mX45_ledger mX45_entries mX46_texts) a = .inr (ci 1, [va_rf (mX46_texts a)]) := by unfold cSR; simp only [hk]
theorem cSR_2_0 {ci : Nat → Nat} {d : Nat → ClassId} {kd : Nat → Nat} {an : Nat → Nat} {ai : Nat → Nat → Int32} {al : Nat → Nat → Int64} {ar : Nat → Nat → Option Nat} {mX45_rooms : Nat → Option Nat} {mX45_calls : Nat → Option Nat} {mX45_names : Nat → Option Nat} {mX45_versions : Nat → Option Nat} {mX45_values : Nat → Option Nat} {mX45_proofs : Nat → Option Nat} {mX45_rights : Nat → Option Nat} {mX45_classes : Nat → Option Nat} {mX45_facets : Nat → Option Nat} {mX45_tables : Nat → Option Nat} {mX45_rules : Nat → Option Nat} {mX45_rewrite : Nat → Option Nat} {mX45_disk : Nat → Option Nat} {mX45_tape : Nat → Option Nat} {mX45_size : Nat → Int32} {mX45_begins : Nat → Option Nat} {mX45_ends : Nat → Option Nat} {mX45_words : Nat → Int32} {mX45_need : Nat → Option Nat} {mX45_told : Nat → Option Nat} {mX45_threw : Nat → Option Nat} {mX45_done : Nat → Int32} {mX45_wrong : Nat → Int32} {mX45_throwing : Nat → Int32} {mX45_ledger : Nat → Option Nat} {mX45_entries : Nat → Int32} {mX46_texts : Nat → Option Nat} {a : Nat} {v : Option Nat} (hk : kd a = 2) : va_up (cSR ci d kd an ai al ar mX45_rooms mX45_calls mX45_names mX45_versions mX45_values mX45_proofs mX45_rights mX45_classes mX45_facets mX45_tables mX45_rules mX45_rewrite mX45_disk mX45_tape mX45_size mX45_begins mX45_ends mX45_words mX45_need mX45_told mX45_threw mX45_done mX45_wrong mX45_throwing mX45_ledger mX45_entries mX46_texts) a (.inr (ci 1, [va_rf v])) = (cSR ci d kd an ai al ar mX45_rooms mX45_calls mX45_names mX45_versions mX45_values mX45_proofs mX45_rights mX45_classes mX45_facets mX45_tables mX45_rules mX45_rewrite mX45_disk mX45_tape mX45_size mX45_begins mX45_ends mX45_words mX45_need mX45_told mX45_threw mX45_done mX45_wrong mX45_throwing mX45_ledger mX45_entries (va_up mX46_texts a v)) := by
  funext b
  by_cases h : b = a
  · subst h
    rw [va_up_self]
    unfold cSR
    rw [hk]
    simp only [va_up_self]
  · rw [va_up_ne _ _ h]
    unfold cSR
    simp only [va_up_ne _ _ h]
theorem cSR_2_n {ci : Nat → Nat} {d : Nat → ClassId} {kd : Nat → Nat} {an : Nat → Nat} {ai : Nat → Nat → Int32} {al : Nat → Nat → Int64} {ar : Nat → Nat → Option Nat} {mX45_rooms : Nat → Option Nat} {mX45_calls : Nat → Option Nat} {mX45_names : Nat → Option Nat} {mX45_versions : Nat → Option Nat} {mX45_values : Nat → Option Nat} {mX45_proofs : Nat → Option Nat} {mX45_rights : Nat → Option Nat} {mX45_classes : Nat → Option Nat} {mX45_facets : Nat → Option Nat} {mX45_tables : Nat → Option Nat} {mX45_rules : Nat → Option Nat} {mX45_rewrite : Nat → Option Nat} {mX45_disk : Nat → Option Nat} {mX45_tape : Nat → Option Nat} {mX45_size : Nat → Int32} {mX45_begins : Nat → Option Nat} {mX45_ends : Nat → Option Nat} {mX45_words : Nat → Int32} {mX45_need : Nat → Option Nat} {mX45_told : Nat → Option Nat} {mX45_threw : Nat → Option Nat} {mX45_done : Nat → Int32} {mX45_wrong : Nat → Int32} {mX45_throwing : Nat → Int32} {mX45_ledger : Nat → Option Nat} {mX45_entries : Nat → Int32} {mX46_texts : Nat → Option Nat} (q : Nat) : va_up (cSR ci d kd an ai al ar mX45_rooms mX45_calls mX45_names mX45_versions mX45_values mX45_proofs mX45_rights mX45_classes mX45_facets mX45_tables mX45_rules mX45_rewrite mX45_disk mX45_tape mX45_size mX45_begins mX45_ends mX45_words mX45_need mX45_told mX45_threw mX45_done mX45_wrong mX45_throwing mX45_ledger mX45_entries mX46_texts) q (.inr (ci 1, [va_rf none])) = (cSR ci d (va_up kd q 2) an ai al ar mX45_rooms mX45_calls mX45_names mX45_versions mX45_values mX45_proofs mX45_rights mX45_classes mX45_facets mX45_tables mX45_rules mX45_rewrite mX45_disk mX45_tape mX45_size mX45_begins mX45_ends mX45_words mX45_need mX45_told mX45_threw mX45_done mX45_wrong mX45_throwing mX45_ledger mX45_entries (va_up mX46_texts q none)) := by
  funext b
  by_cases h : b = q
  · subst h
    rw [va_up_self]
    unfold cSR
    simp only [va_up_self]
  · rw [va_up_ne _ _ h]
    unfold cSR
    simp only [va_up_ne _ _ h]
theorem cSR_3 {ci : Nat → Nat} {d : Nat → ClassId} {kd : Nat → Nat} {an : Nat → Nat} {ai : Nat → Nat → Int32} {al : Nat → Nat → Int64} {ar : Nat → Nat → Option Nat} {mX45_rooms : Nat → Option Nat} {mX45_calls : Nat → Option Nat} {mX45_names : Nat → Option Nat} {mX45_versions : Nat → Option Nat} {mX45_values : Nat → Option Nat} {mX45_proofs : Nat → Option Nat} {mX45_rights : Nat → Option Nat} {mX45_classes : Nat → Option Nat} {mX45_facets : Nat → Option Nat} {mX45_tables : Nat → Option Nat} {mX45_rules : Nat → Option Nat} {mX45_rewrite : Nat → Option Nat} {mX45_disk : Nat → Option Nat} {mX45_tape : Nat → Option Nat} {mX45_size : Nat → Int32} {mX45_begins : Nat → Option Nat} {mX45_ends : Nat → Option Nat} {mX45_words : Nat → Int32} {mX45_need : Nat → Option Nat} {mX45_told : Nat → Option Nat} {mX45_threw : Nat → Option Nat} {mX45_done : Nat → Int32} {mX45_wrong : Nat → Int32} {mX45_throwing : Nat → Int32} {mX45_ledger : Nat → Option Nat} {mX45_entries : Nat → Int32} {mX46_texts : Nat → Option Nat} {a : Nat} (hk : kd a = 3) : (cSR ci d kd an ai al ar mX45_rooms mX45_calls mX45_names mX45_versions mX45_values mX45_proofs mX45_rights mX45_classes mX45_facets mX45_tables mX45_rules mX45_rewrite mX45_disk mX45_tape mX45_size mX45_begins mX45_ends mX45_words mX45_need mX45_told mX45_threw mX45_done mX45_wrong mX45_throwing mX45_ledger mX45_entries mX46_texts) a = .inl (d 0, an a, .inl (ai a)) := by unfold cSR; simp only [hk]
theorem cSR_3_s {ci : Nat → Nat} {d : Nat → ClassId} {kd : Nat → Nat} {an : Nat → Nat} {ai : Nat → Nat → Int32} {al : Nat → Nat → Int64} {ar : Nat → Nat → Option Nat} {mX45_rooms : Nat → Option Nat} {mX45_calls : Nat → Option Nat} {mX45_names : Nat → Option Nat} {mX45_versions : Nat → Option Nat} {mX45_values : Nat → Option Nat} {mX45_proofs : Nat → Option Nat} {mX45_rights : Nat → Option Nat} {mX45_classes : Nat → Option Nat} {mX45_facets : Nat → Option Nat} {mX45_tables : Nat → Option Nat} {mX45_rules : Nat → Option Nat} {mX45_rewrite : Nat → Option Nat} {mX45_disk : Nat → Option Nat} {mX45_tape : Nat → Option Nat} {mX45_size : Nat → Int32} {mX45_begins : Nat → Option Nat} {mX45_ends : Nat → Option Nat} {mX45_words : Nat → Int32} {mX45_need : Nat → Option Nat} {mX45_told : Nat → Option Nat} {mX45_threw : Nat → Option Nat} {mX45_done : Nat → Int32} {mX45_wrong : Nat → Int32} {mX45_throwing : Nat → Int32} {mX45_ledger : Nat → Option Nat} {mX45_entries : Nat → Int32} {mX46_texts : Nat → Option Nat} {a : Nat} {g : Nat → Int32} (hk : kd a = 3) : va_up (cSR ci d kd an ai al ar mX45_rooms mX45_calls mX45_names mX45_versions mX45_values mX45_proofs mX45_rights mX45_classes mX45_facets mX45_tables mX45_rules mX45_rewrite mX45_disk mX45_tape mX45_size mX45_begins mX45_ends mX45_words mX45_need mX45_told mX45_threw mX45_done mX45_wrong mX45_throwing mX45_ledger mX45_entries mX46_texts) a (.inl (d 0, an a, .inl g)) = (cSR ci d kd an (va_up ai a g) al ar mX45_rooms mX45_calls mX45_names mX45_versions mX45_values mX45_proofs mX45_rights mX45_classes mX45_facets mX45_tables mX45_rules mX45_rewrite mX45_disk mX45_tape mX45_size mX45_begins mX45_ends mX45_words mX45_need mX45_told mX45_threw mX45_done mX45_wrong mX45_throwing mX45_ledger mX45_entries mX46_texts) := by
  funext b
  by_cases h : b = a
  · subst h
    rw [va_up_self]
    unfold cSR
    rw [hk]
    simp only [va_up_self]
  · rw [va_up_ne _ _ h]
    unfold cSR
    simp only [va_up_ne _ _ h]
theorem cSR_3_n {ci : Nat → Nat} {d : Nat → ClassId} {kd : Nat → Nat} {an : Nat → Nat} {ai : Nat → Nat → Int32} {al : Nat → Nat → Int64} {ar : Nat → Nat → Option Nat} {mX45_rooms : Nat → Option Nat} {mX45_calls : Nat → Option Nat} {mX45_names : Nat → Option Nat} {mX45_versions : Nat → Option Nat} {mX45_values : Nat → Option Nat} {mX45_proofs : Nat → Option Nat} {mX45_rights : Nat → Option Nat} {mX45_classes : Nat → Option Nat} {mX45_facets : Nat → Option Nat} {mX45_tables : Nat → Option Nat} {mX45_rules : Nat → Option Nat} {mX45_rewrite : Nat → Option Nat} {mX45_disk : Nat → Option Nat} {mX45_tape : Nat → Option Nat} {mX45_size : Nat → Int32} {mX45_begins : Nat → Option Nat} {mX45_ends : Nat → Option Nat} {mX45_words : Nat → Int32} {mX45_need : Nat → Option Nat} {mX45_told : Nat → Option Nat} {mX45_threw : Nat → Option Nat} {mX45_done : Nat → Int32} {mX45_wrong : Nat → Int32} {mX45_throwing : Nat → Int32} {mX45_ledger : Nat → Option Nat} {mX45_entries : Nat → Int32} {mX46_texts : Nat → Option Nat} (n q : Nat) : va_up (cSR ci d kd an ai al ar mX45_rooms mX45_calls mX45_names mX45_versions mX45_values mX45_proofs mX45_rights mX45_classes mX45_facets mX45_tables mX45_rules mX45_rewrite mX45_disk mX45_tape mX45_size mX45_begins mX45_ends mX45_words mX45_need mX45_told mX45_threw mX45_done mX45_wrong mX45_throwing mX45_ledger mX45_entries mX46_texts) q (.inl (d 0, n, .inl (fun _ => 0))) = (cSR ci d (va_up kd q 3) (va_up an q n) (va_up ai q (fun _ => 0)) al ar mX45_rooms mX45_calls mX45_names mX45_versions mX45_values mX45_proofs mX45_rights mX45_classes mX45_facets mX45_tables mX45_rules mX45_rewrite mX45_disk mX45_tape mX45_size mX45_begins mX45_ends mX45_words mX45_need mX45_told mX45_threw mX45_done mX45_wrong mX45_throwing mX45_ledger mX45_entries mX46_texts) := by
  funext b
  by_cases h : b = q
  · subst h
    rw [va_up_self]
    unfold cSR
    simp only [va_up_self]
  · rw [va_up_ne _ _ h]
    unfold cSR
    simp only [va_up_ne _ _ h]
theorem cSR_4 {ci : Nat → Nat} {d : Nat → ClassId} {kd : Nat → Nat} {an : Nat → Nat} {ai : Nat → Nat → Int32} {al : Nat → Nat → Int64} {ar : Nat → Nat → Option Nat} {mX45_rooms : Nat → Option Nat} {mX45_calls : Nat → Option Nat} {mX45_names : Nat → Option Nat} {mX45_versions : Nat → Option Nat} {mX45_values : Nat → Option Nat} {mX45_proofs : Nat → Option Nat} {mX45_rights : Nat → Option Nat} {mX45_classes : Nat → Option Nat} {mX45_facets : Nat → Option Nat} {mX45_tables : Nat → Option Nat} {mX45_rules : Nat → Option Nat} {mX45_rewrite : Nat → Option Nat} {mX45_disk : Nat → Option Nat} {mX45_tape : Nat → Option Nat} {mX45_size : Nat → Int32} {mX45_begins : Nat → Option Nat} {mX45_ends : Nat → Option Nat} {mX45_words : Nat → Int32} {mX45_need : Nat → Option Nat} {mX45_told : Nat → Option Nat} {mX45_threw : Nat → Option Nat} {mX45_done : Nat → Int32} {mX45_wrong : Nat → Int32} {mX45_throwing : Nat → Int32} {mX45_ledger : Nat → Option Nat} {mX45_entries : Nat → Int32} {mX46_texts : Nat → Option Nat} {a : Nat} (hk : kd a = 4) : (cSR ci d kd an ai al ar mX45_rooms mX45_calls mX45_names mX45_versions mX45_values mX45_proofs mX45_rights mX45_classes mX45_facets mX45_tables mX45_rules mX45_rewrite mX45_disk mX45_tape mX45_size mX45_begins mX45_ends mX45_words mX45_need mX45_told mX45_threw mX45_done mX45_wrong mX45_throwing mX45_ledger mX45_entries mX46_texts) a = .inl (d 1, an a, .inl (ai a)) := by unfold cSR; simp only [hk]
theorem cSR_4_s {ci : Nat → Nat} {d : Nat → ClassId} {kd : Nat → Nat} {an : Nat → Nat} {ai : Nat → Nat → Int32} {al : Nat → Nat → Int64} {ar : Nat → Nat → Option Nat} {mX45_rooms : Nat → Option Nat} {mX45_calls : Nat → Option Nat} {mX45_names : Nat → Option Nat} {mX45_versions : Nat → Option Nat} {mX45_values : Nat → Option Nat} {mX45_proofs : Nat → Option Nat} {mX45_rights : Nat → Option Nat} {mX45_classes : Nat → Option Nat} {mX45_facets : Nat → Option Nat} {mX45_tables : Nat → Option Nat} {mX45_rules : Nat → Option Nat} {mX45_rewrite : Nat → Option Nat} {mX45_disk : Nat → Option Nat} {mX45_tape : Nat → Option Nat} {mX45_size : Nat → Int32} {mX45_begins : Nat → Option Nat} {mX45_ends : Nat → Option Nat} {mX45_words : Nat → Int32} {mX45_need : Nat → Option Nat} {mX45_told : Nat → Option Nat} {mX45_threw : Nat → Option Nat} {mX45_done : Nat → Int32} {mX45_wrong : Nat → Int32} {mX45_throwing : Nat → Int32} {mX45_ledger : Nat → Option Nat} {mX45_entries : Nat → Int32} {mX46_texts : Nat → Option Nat} {a : Nat} {g : Nat → Int32} (hk : kd a = 4) : va_up (cSR ci d kd an ai al ar mX45_rooms mX45_calls mX45_names mX45_versions mX45_values mX45_proofs mX45_rights mX45_classes mX45_facets mX45_tables mX45_rules mX45_rewrite mX45_disk mX45_tape mX45_size mX45_begins mX45_ends mX45_words mX45_need mX45_told mX45_threw mX45_done mX45_wrong mX45_throwing mX45_ledger mX45_entries mX46_texts) a (.inl (d 1, an a, .inl g)) = (cSR ci d kd an (va_up ai a g) al ar mX45_rooms mX45_calls mX45_names mX45_versions mX45_values mX45_proofs mX45_rights mX45_classes mX45_facets mX45_tables mX45_rules mX45_rewrite mX45_disk mX45_tape mX45_size mX45_begins mX45_ends mX45_words mX45_need mX45_told mX45_threw mX45_done mX45_wrong mX45_throwing mX45_ledger mX45_entries mX46_texts) := by
  funext b
  by_cases h : b = a
  · subst h
    rw [va_up_self]
    unfold cSR
    rw [hk]
    simp only [va_up_self]
  · rw [va_up_ne _ _ h]
    unfold cSR
    simp only [va_up_ne _ _ h]
theorem cSR_4_n {ci : Nat → Nat} {d : Nat → ClassId} {kd : Nat → Nat} {an : Nat → Nat} {ai : Nat → Nat → Int32} {al : Nat → Nat → Int64} {ar : Nat → Nat → Option Nat} {mX45_rooms : Nat → Option Nat} {mX45_calls : Nat → Option Nat} {mX45_names : Nat → Option Nat} {mX45_versions : Nat → Option Nat} {mX45_values : Nat → Option Nat} {mX45_proofs : Nat → Option Nat} {mX45_rights : Nat → Option Nat} {mX45_classes : Nat → Option Nat} {mX45_facets : Nat → Option Nat} {mX45_tables : Nat → Option Nat} {mX45_rules : Nat → Option Nat} {mX45_rewrite : Nat → Option Nat} {mX45_disk : Nat → Option Nat} {mX45_tape : Nat → Option Nat} {mX45_size : Nat → Int32} {mX45_begins : Nat → Option Nat} {mX45_ends : Nat → Option Nat} {mX45_words : Nat → Int32} {mX45_need : Nat → Option Nat} {mX45_told : Nat → Option Nat} {mX45_threw : Nat → Option Nat} {mX45_done : Nat → Int32} {mX45_wrong : Nat → Int32} {mX45_throwing : Nat → Int32} {mX45_ledger : Nat → Option Nat} {mX45_entries : Nat → Int32} {mX46_texts : Nat → Option Nat} (n q : Nat) : va_up (cSR ci d kd an ai al ar mX45_rooms mX45_calls mX45_names mX45_versions mX45_values mX45_proofs mX45_rights mX45_classes mX45_facets mX45_tables mX45_rules mX45_rewrite mX45_disk mX45_tape mX45_size mX45_begins mX45_ends mX45_words mX45_need mX45_told mX45_threw mX45_done mX45_wrong mX45_throwing mX45_ledger mX45_entries mX46_texts) q (.inl (d 1, n, .inl (fun _ => 0))) = (cSR ci d (va_up kd q 4) (va_up an q n) (va_up ai q (fun _ => 0)) al ar mX45_rooms mX45_calls mX45_names mX45_versions mX45_values mX45_proofs mX45_rights mX45_classes mX45_facets mX45_tables mX45_rules mX45_rewrite mX45_disk mX45_tape mX45_size mX45_begins mX45_ends mX45_words mX45_need mX45_told mX45_threw mX45_done mX45_wrong mX45_throwing mX45_ledger mX45_entries mX46_texts) := by
  funext b
  by_cases h : b = q
  · subst h
    rw [va_up_self]
    unfold cSR
    simp only [va_up_self]
  · rw [va_up_ne _ _ h]
    unfold cSR
    simp only [va_up_ne _ _ h]
theorem cSR_5 {ci : Nat → Nat} {d : Nat → ClassId} {kd : Nat → Nat} {an : Nat → Nat} {ai : Nat → Nat → Int32} {al : Nat → Nat → Int64} {ar : Nat → Nat → Option Nat} {mX45_rooms : Nat → Option Nat} {mX45_calls : Nat → Option Nat} {mX45_names : Nat → Option Nat} {mX45_versions : Nat → Option Nat} {mX45_values : Nat → Option Nat} {mX45_proofs : Nat → Option Nat} {mX45_rights : Nat → Option Nat} {mX45_classes : Nat → Option Nat} {mX45_facets : Nat → Option Nat} {mX45_tables : Nat → Option Nat} {mX45_rules : Nat → Option Nat} {mX45_rewrite : Nat → Option Nat} {mX45_disk : Nat → Option Nat} {mX45_tape : Nat → Option Nat} {mX45_size : Nat → Int32} {mX45_begins : Nat → Option Nat} {mX45_ends : Nat → Option Nat} {mX45_words : Nat → Int32} {mX45_need : Nat → Option Nat} {mX45_told : Nat → Option Nat} {mX45_threw : Nat → Option Nat} {mX45_done : Nat → Int32} {mX45_wrong : Nat → Int32} {mX45_throwing : Nat → Int32} {mX45_ledger : Nat → Option Nat} {mX45_entries : Nat → Int32} {mX46_texts : Nat → Option Nat} {a : Nat} (hk : kd a = 5) : (cSR ci d kd an ai al ar mX45_rooms mX45_calls mX45_names mX45_versions mX45_values mX45_proofs mX45_rights mX45_classes mX45_facets mX45_tables mX45_rules mX45_rewrite mX45_disk mX45_tape mX45_size mX45_begins mX45_ends mX45_words mX45_need mX45_told mX45_threw mX45_done mX45_wrong mX45_throwing mX45_ledger mX45_entries mX46_texts) a = .inl (d 2, an a, .inr (.inl (al a))) := by unfold cSR; simp only [hk]
theorem cSR_5_s {ci : Nat → Nat} {d : Nat → ClassId} {kd : Nat → Nat} {an : Nat → Nat} {ai : Nat → Nat → Int32} {al : Nat → Nat → Int64} {ar : Nat → Nat → Option Nat} {mX45_rooms : Nat → Option Nat} {mX45_calls : Nat → Option Nat} {mX45_names : Nat → Option Nat} {mX45_versions : Nat → Option Nat} {mX45_values : Nat → Option Nat} {mX45_proofs : Nat → Option Nat} {mX45_rights : Nat → Option Nat} {mX45_classes : Nat → Option Nat} {mX45_facets : Nat → Option Nat} {mX45_tables : Nat → Option Nat} {mX45_rules : Nat → Option Nat} {mX45_rewrite : Nat → Option Nat} {mX45_disk : Nat → Option Nat} {mX45_tape : Nat → Option Nat} {mX45_size : Nat → Int32} {mX45_begins : Nat → Option Nat} {mX45_ends : Nat → Option Nat} {mX45_words : Nat → Int32} {mX45_need : Nat → Option Nat} {mX45_told : Nat → Option Nat} {mX45_threw : Nat → Option Nat} {mX45_done : Nat → Int32} {mX45_wrong : Nat → Int32} {mX45_throwing : Nat → Int32} {mX45_ledger : Nat → Option Nat} {mX45_entries : Nat → Int32} {mX46_texts : Nat → Option Nat} {a : Nat} {g : Nat → Int64} (hk : kd a = 5) : va_up (cSR ci d kd an ai al ar mX45_rooms mX45_calls mX45_names mX45_versions mX45_values mX45_proofs mX45_rights mX45_classes mX45_facets mX45_tables mX45_rules mX45_rewrite mX45_disk mX45_tape mX45_size mX45_begins mX45_ends mX45_words mX45_need mX45_told mX45_threw mX45_done mX45_wrong mX45_throwing mX45_ledger mX45_entries mX46_texts) a (.inl (d 2, an a, .inr (.inl g))) = (cSR ci d kd an ai (va_up al a g) ar mX45_rooms mX45_calls mX45_names mX45_versions mX45_values mX45_proofs mX45_rights mX45_classes mX45_facets mX45_tables mX45_rules mX45_rewrite mX45_disk mX45_tape mX45_size mX45_begins mX45_ends mX45_words mX45_need mX45_told mX45_threw mX45_done mX45_wrong mX45_throwing mX45_ledger mX45_entries mX46_texts) := by
  funext b
  by_cases h : b = a
  · subst h
    rw [va_up_self]
    unfold cSR
    rw [hk]
    simp only [va_up_self]
  · rw [va_up_ne _ _ h]
    unfold cSR
    simp only [va_up_ne _ _ h]
theorem cSR_5_n {ci : Nat → Nat} {d : Nat → ClassId} {kd : Nat → Nat} {an : Nat → Nat} {ai : Nat → Nat → Int32} {al : Nat → Nat → Int64} {ar : Nat → Nat → Option Nat} {mX45_rooms : Nat → Option Nat} {mX45_calls : Nat → Option Nat} {mX45_names : Nat → Option Nat} {mX45_versions : Nat → Option Nat} {mX45_values : Nat → Option Nat} {mX45_proofs : Nat → Option Nat} {mX45_rights : Nat → Option Nat} {mX45_classes : Nat → Option Nat} {mX45_facets : Nat → Option Nat} {mX45_tables : Nat → Option Nat} {mX45_rules : Nat → Option Nat} {mX45_rewrite : Nat → Option Nat} {mX45_disk : Nat → Option Nat} {mX45_tape : Nat → Option Nat} {mX45_size : Nat → Int32} {mX45_begins : Nat → Option Nat} {mX45_ends : Nat → Option Nat} {mX45_words : Nat → Int32} {mX45_need : Nat → Option Nat} {mX45_told : Nat → Option Nat} {mX45_threw : Nat → Option Nat} {mX45_done : Nat → Int32} {mX45_wrong : Nat → Int32} {mX45_throwing : Nat → Int32} {mX45_ledger : Nat → Option Nat} {mX45_entries : Nat → Int32} {mX46_texts : Nat → Option Nat} (n q : Nat) : va_up (cSR ci d kd an ai al ar mX45_rooms mX45_calls mX45_names mX45_versions mX45_values mX45_proofs mX45_rights mX45_classes mX45_facets mX45_tables mX45_rules mX45_rewrite mX45_disk mX45_tape mX45_size mX45_begins mX45_ends mX45_words mX45_need mX45_told mX45_threw mX45_done mX45_wrong mX45_throwing mX45_ledger mX45_entries mX46_texts) q (.inl (d 2, n, .inr (.inl (fun _ => 0)))) = (cSR ci d (va_up kd q 5) (va_up an q n) ai (va_up al q (fun _ => 0)) ar mX45_rooms mX45_calls mX45_names mX45_versions mX45_values mX45_proofs mX45_rights mX45_classes mX45_facets mX45_tables mX45_rules mX45_rewrite mX45_disk mX45_tape mX45_size mX45_begins mX45_ends mX45_words mX45_need mX45_told mX45_threw mX45_done mX45_wrong mX45_throwing mX45_ledger mX45_entries mX46_texts) := by
  funext b
  by_cases h : b = q
  · subst h
    rw [va_up_self]
    unfold cSR
    simp only [va_up_self]
  · rw [va_up_ne _ _ h]
    unfold cSR
    simp only [va_up_ne _ _ h]
theorem cSR_6 {ci : Nat → Nat} {d : Nat → ClassId} {kd : Nat → Nat} {an : Nat → Nat} {ai : Nat → Nat → Int32} {al : Nat → Nat → Int64} {ar : Nat → Nat → Option Nat} {mX45_rooms : Nat → Option Nat} {mX45_calls : Nat → Option Nat} {mX45_names : Nat → Option Nat} {mX45_versions : Nat → Option Nat} {mX45_values : Nat → Option Nat} {mX45_proofs : Nat → Option Nat} {mX45_rights : Nat → Option Nat} {mX45_classes : Nat → Option Nat} {mX45_facets : Nat → Option Nat} {mX45_tables : Nat → Option Nat} {mX45_rules : Nat → Option Nat} {mX45_rewrite : Nat → Option Nat} {mX45_disk : Nat → Option Nat} {mX45_tape : Nat → Option Nat} {mX45_size : Nat → Int32} {mX45_begins : Nat → Option Nat} {mX45_ends : Nat → Option Nat} {mX45_words : Nat → Int32} {mX45_need : Nat → Option Nat} {mX45_told : Nat → Option Nat} {mX45_threw : Nat → Option Nat} {mX45_done : Nat → Int32} {mX45_wrong : Nat → Int32} {mX45_throwing : Nat → Int32} {mX45_ledger : Nat → Option Nat} {mX45_entries : Nat → Int32} {mX46_texts : Nat → Option Nat} {a : Nat} (hk : kd a = 6) : (cSR ci d kd an ai al ar mX45_rooms mX45_calls mX45_names mX45_versions mX45_values mX45_proofs mX45_rights mX45_classes mX45_facets mX45_tables mX45_rules mX45_rewrite mX45_disk mX45_tape mX45_size mX45_begins mX45_ends mX45_words mX45_need mX45_told mX45_threw mX45_done mX45_wrong mX45_throwing mX45_ledger mX45_entries mX46_texts) a = .inl (d 3, an a, .inr (.inr (.inr (.inr (ar a))))) := by unfold cSR; simp only [hk]
theorem cSR_6_s {ci : Nat → Nat} {d : Nat → ClassId} {kd : Nat → Nat} {an : Nat → Nat} {ai : Nat → Nat → Int32} {al : Nat → Nat → Int64} {ar : Nat → Nat → Option Nat} {mX45_rooms : Nat → Option Nat} {mX45_calls : Nat → Option Nat} {mX45_names : Nat → Option Nat} {mX45_versions : Nat → Option Nat} {mX45_values : Nat → Option Nat} {mX45_proofs : Nat → Option Nat} {mX45_rights : Nat → Option Nat} {mX45_classes : Nat → Option Nat} {mX45_facets : Nat → Option Nat} {mX45_tables : Nat → Option Nat} {mX45_rules : Nat → Option Nat} {mX45_rewrite : Nat → Option Nat} {mX45_disk : Nat → Option Nat} {mX45_tape : Nat → Option Nat} {mX45_size : Nat → Int32} {mX45_begins : Nat → Option Nat} {mX45_ends : Nat → Option Nat} {mX45_words : Nat → Int32} {mX45_need : Nat → Option Nat} {mX45_told : Nat → Option Nat} {mX45_threw : Nat → Option Nat} {mX45_done : Nat → Int32} {mX45_wrong : Nat → Int32} {mX45_throwing : Nat → Int32} {mX45_ledger : Nat → Option Nat} {mX45_entries : Nat → Int32} {mX46_texts : Nat → Option Nat} {a : Nat} {g : Nat → Option Nat} (hk : kd a = 6) : va_up (cSR ci d kd an ai al ar mX45_rooms mX45_calls mX45_names mX45_versions mX45_values mX45_proofs mX45_rights mX45_classes mX45_facets mX45_tables mX45_rules mX45_rewrite mX45_disk mX45_tape mX45_size mX45_begins mX45_ends mX45_words mX45_need mX45_told mX45_threw mX45_done mX45_wrong mX45_throwing mX45_ledger mX45_entries mX46_texts) a (.inl (d 3, an a, .inr (.inr (.inr (.inr g))))) = (cSR ci d kd an ai al (va_up ar a g) mX45_rooms mX45_calls mX45_names mX45_versions mX45_values mX45_proofs mX45_rights mX45_classes mX45_facets mX45_tables mX45_rules mX45_rewrite mX45_disk mX45_tape mX45_size mX45_begins mX45_ends mX45_words mX45_need mX45_told mX45_threw mX45_done mX45_wrong mX45_throwing mX45_ledger mX45_entries mX46_texts) := by
  funext b
  by_cases h : b = a
  · subst h
    rw [va_up_self]
    unfold cSR
    rw [hk]
    simp only [va_up_self]
  · rw [va_up_ne _ _ h]
    unfold cSR
    simp only [va_up_ne _ _ h]
theorem cSR_6_n {ci : Nat → Nat} {d : Nat → ClassId} {kd : Nat → Nat} {an : Nat → Nat} {ai : Nat → Nat → Int32} {al : Nat → Nat → Int64} {ar : Nat → Nat → Option Nat} {mX45_rooms : Nat → Option Nat} {mX45_calls : Nat → Option Nat} {mX45_names : Nat → Option Nat} {mX45_versions : Nat → Option Nat} {mX45_values : Nat → Option Nat} {mX45_proofs : Nat → Option Nat} {mX45_rights : Nat → Option Nat} {mX45_classes : Nat → Option Nat} {mX45_facets : Nat → Option Nat} {mX45_tables : Nat → Option Nat} {mX45_rules : Nat → Option Nat} {mX45_rewrite : Nat → Option Nat} {mX45_disk : Nat → Option Nat} {mX45_tape : Nat → Option Nat} {mX45_size : Nat → Int32} {mX45_begins : Nat → Option Nat} {mX45_ends : Nat → Option Nat} {mX45_words : Nat → Int32} {mX45_need : Nat → Option Nat} {mX45_told : Nat → Option Nat} {mX45_threw : Nat → Option Nat} {mX45_done : Nat → Int32} {mX45_wrong : Nat → Int32} {mX45_throwing : Nat → Int32} {mX45_ledger : Nat → Option Nat} {mX45_entries : Nat → Int32} {mX46_texts : Nat → Option Nat} (n q : Nat) : va_up (cSR ci d kd an ai al ar mX45_rooms mX45_calls mX45_names mX45_versions mX45_values mX45_proofs mX45_rights mX45_classes mX45_facets mX45_tables mX45_rules mX45_rewrite mX45_disk mX45_tape mX45_size mX45_begins mX45_ends mX45_words mX45_need mX45_told mX45_threw mX45_done mX45_wrong mX45_throwing mX45_ledger mX45_entries mX46_texts) q (.inl (d 3, n, .inr (.inr (.inr (.inr (fun _ => none)))))) = (cSR ci d (va_up kd q 6) (va_up an q n) ai al (va_up ar q (fun _ => none)) mX45_rooms mX45_calls mX45_names mX45_versions mX45_values mX45_proofs mX45_rights mX45_classes mX45_facets mX45_tables mX45_rules mX45_rewrite mX45_disk mX45_tape mX45_size mX45_begins mX45_ends mX45_words mX45_need mX45_told mX45_threw mX45_done mX45_wrong mX45_throwing mX45_ledger mX45_entries mX46_texts) := by
  funext b
  by_cases h : b = q
  · subst h
    rw [va_up_self]
    unfold cSR
    simp only [va_up_self]
  · rw [va_up_ne _ _ h]
    unfold cSR
    simp only [va_up_ne _ _ h]
theorem cSR_7 {ci : Nat → Nat} {d : Nat → ClassId} {kd : Nat → Nat} {an : Nat → Nat} {ai : Nat → Nat → Int32} {al : Nat → Nat → Int64} {ar : Nat → Nat → Option Nat} {mX45_rooms : Nat → Option Nat} {mX45_calls : Nat → Option Nat} {mX45_names : Nat → Option Nat} {mX45_versions : Nat → Option Nat} {mX45_values : Nat → Option Nat} {mX45_proofs : Nat → Option Nat} {mX45_rights : Nat → Option Nat} {mX45_classes : Nat → Option Nat} {mX45_facets : Nat → Option Nat} {mX45_tables : Nat → Option Nat} {mX45_rules : Nat → Option Nat} {mX45_rewrite : Nat → Option Nat} {mX45_disk : Nat → Option Nat} {mX45_tape : Nat → Option Nat} {mX45_size : Nat → Int32} {mX45_begins : Nat → Option Nat} {mX45_ends : Nat → Option Nat} {mX45_words : Nat → Int32} {mX45_need : Nat → Option Nat} {mX45_told : Nat → Option Nat} {mX45_threw : Nat → Option Nat} {mX45_done : Nat → Int32} {mX45_wrong : Nat → Int32} {mX45_throwing : Nat → Int32} {mX45_ledger : Nat → Option Nat} {mX45_entries : Nat → Int32} {mX46_texts : Nat → Option Nat} {a : Nat} (hk : kd a = 7) : (cSR ci d kd an ai al ar mX45_rooms mX45_calls mX45_names mX45_versions mX45_values mX45_proofs mX45_rights mX45_classes mX45_facets mX45_tables mX45_rules mX45_rewrite mX45_disk mX45_tape mX45_size mX45_begins mX45_ends mX45_words mX45_need mX45_told mX45_threw mX45_done mX45_wrong mX45_throwing mX45_ledger mX45_entries mX46_texts) a = .inl (d 4, an a, .inr (.inr (.inr (.inr (ar a))))) := by unfold cSR; simp only [hk]
theorem cSR_7_s {ci : Nat → Nat} {d : Nat → ClassId} {kd : Nat → Nat} {an : Nat → Nat} {ai : Nat → Nat → Int32} {al : Nat → Nat → Int64} {ar : Nat → Nat → Option Nat} {mX45_rooms : Nat → Option Nat} {mX45_calls : Nat → Option Nat} {mX45_names : Nat → Option Nat} {mX45_versions : Nat → Option Nat} {mX45_values : Nat → Option Nat} {mX45_proofs : Nat → Option Nat} {mX45_rights : Nat → Option Nat} {mX45_classes : Nat → Option Nat} {mX45_facets : Nat → Option Nat} {mX45_tables : Nat → Option Nat} {mX45_rules : Nat → Option Nat} {mX45_rewrite : Nat → Option Nat} {mX45_disk : Nat → Option Nat} {mX45_tape : Nat → Option Nat} {mX45_size : Nat → Int32} {mX45_begins : Nat → Option Nat} {mX45_ends : Nat → Option Nat} {mX45_words : Nat → Int32} {mX45_need : Nat → Option Nat} {mX45_told : Nat → Option Nat} {mX45_threw : Nat → Option Nat} {mX45_done : Nat → Int32} {mX45_wrong : Nat → Int32} {mX45_throwing : Nat → Int32} {mX45_ledger : Nat → Option Nat} {mX45_entries : Nat → Int32} {mX46_texts : Nat → Option Nat} {a : Nat} {g : Nat → Option Nat} (hk : kd a = 7) : va_up (cSR ci d kd an ai al ar mX45_rooms mX45_calls mX45_names mX45_versions mX45_values mX45_proofs mX45_rights mX45_classes mX45_facets mX45_tables mX45_rules mX45_rewrite mX45_disk mX45_tape mX45_size mX45_begins mX45_ends mX45_words mX45_need mX45_told mX45_threw mX45_done mX45_wrong mX45_throwing mX45_ledger mX45_entries mX46_texts) a (.inl (d 4, an a, .inr (.inr (.inr (.inr g))))) = (cSR ci d kd an ai al (va_up ar a g) mX45_rooms mX45_calls mX45_names mX45_versions mX45_values mX45_proofs mX45_rights mX45_classes mX45_facets mX45_tables mX45_rules mX45_rewrite mX45_disk mX45_tape mX45_size mX45_begins mX45_ends mX45_words mX45_need mX45_told mX45_threw mX45_done mX45_wrong mX45_throwing mX45_ledger mX45_entries mX46_texts) := by
  funext b
  by_cases h : b = a
  · subst h
    rw [va_up_self]
    unfold cSR
    rw [hk]
    simp only [va_up_self]
  · rw [va_up_ne _ _ h]
    unfold cSR
    simp only [va_up_ne _ _ h]
theorem cSR_7_n {ci : Nat → Nat} {d : Nat → ClassId} {kd : Nat → Nat} {an : Nat → Nat} {ai : Nat → Nat → Int32} {al : Nat → Nat → Int64} {ar : Nat → Nat → Option Nat} {mX45_rooms : Nat → Option Nat} {mX45_calls : Nat → Option Nat} {mX45_names : Nat → Option Nat} {mX45_versions : Nat → Option Nat} {mX45_values : Nat → Option Nat} {mX45_proofs : Nat → Option Nat} {mX45_rights : Nat → Option Nat} {mX45_classes : Nat → Option Nat} {mX45_facets : Nat → Option Nat} {mX45_tables : Nat → Option Nat} {mX45_rules : Nat → Option Nat} {mX45_rewrite : Nat → Option Nat} {mX45_disk : Nat → Option Nat} {mX45_tape : Nat → Option Nat} {mX45_size : Nat → Int32} {mX45_begins : Nat → Option Nat} {mX45_ends : Nat → Option Nat} {mX45_words : Nat → Int32} {mX45_need : Nat → Option Nat} {mX45_told : Nat → Option Nat} {mX45_threw : Nat → Option Nat} {mX45_done : Nat → Int32} {mX45_wrong : Nat → Int32} {mX45_throwing : Nat → Int32} {mX45_ledger : Nat → Option Nat} {mX45_entries : Nat → Int32} {mX46_texts : Nat → Option Nat} (n q : Nat) : va_up (cSR ci d kd an ai al ar mX45_rooms mX45_calls mX45_names mX45_versions mX45_values mX45_proofs mX45_rights mX45_classes mX45_facets mX45_tables mX45_rules mX45_rewrite mX45_disk mX45_tape mX45_size mX45_begins mX45_ends mX45_words mX45_need mX45_told mX45_threw mX45_done mX45_wrong mX45_throwing mX45_ledger mX45_entries mX46_texts) q (.inl (d 4, n, .inr (.inr (.inr (.inr (fun _ => none)))))) = (cSR ci d (va_up kd q 7) (va_up an q n) ai al (va_up ar q (fun _ => none)) mX45_rooms mX45_calls mX45_names mX45_versions mX45_values mX45_proofs mX45_rights mX45_classes mX45_facets mX45_tables mX45_rules mX45_rewrite mX45_disk mX45_tape mX45_size mX45_begins mX45_ends mX45_words mX45_need mX45_told mX45_threw mX45_done mX45_wrong mX45_throwing mX45_ledger mX45_entries mX46_texts) := by
  funext b
  by_cases h : b = q
  · subst h
    rw [va_up_self]
    unfold cSR
    simp only [va_up_self]
  · rw [va_up_ne _ _ h]
    unfold cSR
    simp only [va_up_ne _ _ h]
