/-! KnowHouseModel$RightDeskModel (printed by tools/zgen.py) -/
set_option maxRecDepth 100000
def RX51 : String := "KnowHouseModel$RightDeskModel"
def TX51 : u_T := fun k => match k with
  | 0 => ("KnowHouseModel$RightDeskModel", "groups", "[I", true)
  | 1 => ("KnowHouseModel$RightDeskModel", "kinds", "[I", true)
  | 2 => ("KnowHouseModel$RightDeskModel", "as", "[I", true)
  | 3 => ("KnowHouseModel$RightDeskModel", "bs", "[I", true)
  | 4 => ("KnowHouseModel$RightDeskModel", "cs", "[I", true)
  | 5 => ("KnowHouseModel$RightDeskModel", "conditions", "I", false)
  | 6 => ("KnowHouseModel$RightDeskModel", "ranks", "[I", true)
  | 7 => ("KnowHouseModel$RightDeskModel", "denies", "[Z", true)
  | 8 => ("KnowHouseModel$RightDeskModel", "wants", "[I", true)
  | 9 => ("KnowHouseModel$RightDeskModel", "rules", "I", false)
  | _ => ("KnowHouseModel$RightDeskModel", "holds", "[Z", true)
def tyX51 : Nat → FieldType := fun k => match k with
  | 0 => .array .int
  | 1 => .array .int
  | 2 => .array .int
  | 3 => .array .int
  | 4 => .array .int
  | 5 => .int
  | 6 => .array .int
  | 7 => .array .boolean
  | 8 => .array .int
  | 9 => .int
  | _ => .array .boolean
abbrev wsX510 : List Cond := u_ws RX51 TX51 11
theorem nmX51 : ∀ a, a < 11 → ∀ b, b < 11 → a ≠ b → (TX51 a).2.1 ≠ (TX51 b).2.1 := by decide +kernel
theorem tyX51_ok : ∀ k, k < 11 → parseFieldDescriptor (TX51 k).2.2.1 = some (tyX51 k) := by decide +kernel
abbrev cX51_init : ByteArray := prog_87_method_1_code
def yX51_init : MethodName := ⟨RX51, "<init>", "()V"⟩
abbrev cX51_may : ByteArray := prog_87_method_14_code
def yX51_may : MethodName := ⟨RX51, "may", "(IIIIII)I"⟩
theorem dX51_may_0 : decode cX51_may 0 = .ok (.iload_n 1, 1) := by decide +kernel
theorem dX51_may_1 : decode cX51_may 1 = .ok (.bipush 8, 2) := by decide +kernel
theorem dX51_may_3 : decode cX51_may 3 = .ok (.invokestatic 38, 3) := by decide +kernel
theorem dX51_may_6 : decode cX51_may 6 = .ok (.ifCond .eq 48, 3) := by decide +kernel
theorem dX51_may_9 : decode cX51_may 9 = .ok (.iload_n 2, 1) := by decide +kernel
theorem dX51_may_10 : decode cX51_may 10 = .ok (.iconst 4, 1) := by decide +kernel
theorem dX51_may_11 : decode cX51_may 11 = .ok (.invokestatic 38, 3) := by decide +kernel
theorem dX51_may_14 : decode cX51_may 14 = .ok (.ifCond .eq 40, 3) := by decide +kernel
theorem dX51_may_17 : decode cX51_may 17 = .ok (.iload_n 3, 1) := by decide +kernel
theorem dX51_may_18 : decode cX51_may 18 = .ok (.bipush 6, 2) := by decide +kernel
theorem dX51_may_20 : decode cX51_may 20 = .ok (.invokestatic 38, 3) := by decide +kernel
theorem dX51_may_23 : decode cX51_may 23 = .ok (.ifCond .eq 31, 3) := by decide +kernel
theorem dX51_may_26 : decode cX51_may 26 = .ok (.iload 4, 2) := by decide +kernel
theorem dX51_may_28 : decode cX51_may 28 = .ok (.iconst 4, 1) := by decide +kernel
theorem dX51_may_29 : decode cX51_may 29 = .ok (.invokestatic 38, 3) := by decide +kernel
theorem dX51_may_32 : decode cX51_may 32 = .ok (.ifCond .eq 22, 3) := by decide +kernel
theorem dX51_may_35 : decode cX51_may 35 = .ok (.iload 5, 2) := by decide +kernel
theorem dX51_may_37 : decode cX51_may 37 = .ok (.bipush 8, 2) := by decide +kernel
theorem dX51_may_39 : decode cX51_may 39 = .ok (.invokestatic 38, 3) := by decide +kernel
theorem dX51_may_42 : decode cX51_may 42 = .ok (.ifCond .eq 12, 3) := by decide +kernel
theorem dX51_may_45 : decode cX51_may 45 = .ok (.iload 6, 2) := by decide +kernel
theorem dX51_may_47 : decode cX51_may 47 = .ok (.iconst 2, 1) := by decide +kernel
theorem dX51_may_48 : decode cX51_may 48 = .ok (.invokestatic 38, 3) := by decide +kernel
theorem dX51_may_51 : decode cX51_may 51 = .ok (.ifCond .ne 5, 3) := by decide +kernel
theorem dX51_may_54 : decode cX51_may 54 = .ok (.iconst (-1), 1) := by decide +kernel
theorem dX51_may_55 : decode cX51_may 55 = .ok (.ireturn, 1) := by decide +kernel
theorem dX51_may_56 : decode cX51_may 56 = .ok (.aload_n 0, 1) := by decide +kernel
theorem dX51_may_57 : decode cX51_may 57 = .ok (.iload_n 1, 1) := by decide +kernel
theorem dX51_may_58 : decode cX51_may 58 = .ok (.iconst 4, 1) := by decide +kernel
theorem dX51_may_59 : decode cX51_may 59 = .ok (.imul, 1) := by decide +kernel
theorem dX51_may_60 : decode cX51_may 60 = .ok (.iload_n 2, 1) := by decide +kernel
theorem dX51_may_61 : decode cX51_may 61 = .ok (.iadd, 1) := by decide +kernel
theorem dX51_may_62 : decode cX51_may 62 = .ok (.bipush 6, 2) := by decide +kernel
theorem dX51_may_64 : decode cX51_may 64 = .ok (.imul, 1) := by decide +kernel
theorem dX51_may_65 : decode cX51_may 65 = .ok (.iload_n 3, 1) := by decide +kernel
theorem dX51_may_66 : decode cX51_may 66 = .ok (.iadd, 1) := by decide +kernel
theorem dX51_may_67 : decode cX51_may 67 = .ok (.iconst 4, 1) := by decide +kernel
theorem dX51_may_68 : decode cX51_may 68 = .ok (.imul, 1) := by decide +kernel
theorem dX51_may_69 : decode cX51_may 69 = .ok (.iload 4, 2) := by decide +kernel
theorem dX51_may_71 : decode cX51_may 71 = .ok (.iadd, 1) := by decide +kernel
theorem dX51_may_72 : decode cX51_may 72 = .ok (.bipush 8, 2) := by decide +kernel
theorem dX51_may_74 : decode cX51_may 74 = .ok (.imul, 1) := by decide +kernel
theorem dX51_may_75 : decode cX51_may 75 = .ok (.iload 5, 2) := by decide +kernel
theorem dX51_may_77 : decode cX51_may 77 = .ok (.iadd, 1) := by decide +kernel
theorem dX51_may_78 : decode cX51_may 78 = .ok (.iconst (-1), 1) := by decide +kernel
theorem dX51_may_79 : decode cX51_may 79 = .ok (.invokevirtual 67, 3) := by decide +kernel
theorem dX51_may_82 : decode cX51_may 82 = .ok (.istore 7, 2) := by decide +kernel
theorem dX51_may_84 : decode cX51_may 84 = .ok (.iload 6, 2) := by decide +kernel
theorem dX51_may_86 : decode cX51_may 86 = .ok (.iconst 1, 1) := by decide +kernel
theorem dX51_may_87 : decode cX51_may 87 = .ok (.if_icmp .ne 16, 3) := by decide +kernel
theorem dX51_may_90 : decode cX51_may 90 = .ok (.iload 7, 2) := by decide +kernel
theorem dX51_may_92 : decode cX51_may 92 = .ok (.ifCond .ge 8, 3) := by decide +kernel
theorem dX51_may_95 : decode cX51_may 95 = .ok (.bipush (-2), 2) := by decide +kernel
theorem dX51_may_97 : decode cX51_may 97 = .ok (.goto 5, 3) := by decide +kernel
theorem dX51_may_100 : decode cX51_may 100 = .ok (.iload 7, 2) := by decide +kernel
theorem dX51_may_102 : decode cX51_may 102 = .ok (.ireturn, 1) := by decide +kernel
theorem dX51_may_103 : decode cX51_may 103 = .ok (.iload 7, 2) := by decide +kernel
theorem dX51_may_105 : decode cX51_may 105 = .ok (.ifCond .lt 17, 3) := by decide +kernel
theorem dX51_may_108 : decode cX51_may 108 = .ok (.aload_n 0, 1) := by decide +kernel
theorem dX51_may_109 : decode cX51_may 109 = .ok (.getfield 28, 3) := by decide +kernel
theorem dX51_may_112 : decode cX51_may 112 = .ok (.iload 7, 2) := by decide +kernel
theorem dX51_may_114 : decode cX51_may 114 = .ok (.baload, 1) := by decide +kernel
theorem dX51_may_115 : decode cX51_may 115 = .ok (.ifCond .ne 7, 3) := by decide +kernel
theorem dX51_may_118 : decode cX51_may 118 = .ok (.iconst 1, 1) := by decide +kernel
theorem dX51_may_119 : decode cX51_may 119 = .ok (.goto 4, 3) := by decide +kernel
theorem dX51_may_122 : decode cX51_may 122 = .ok (.iconst 0, 1) := by decide +kernel
theorem dX51_may_123 : decode cX51_may 123 = .ok (.ireturn, 1) := by decide +kernel
abbrev cX51_in : ByteArray := prog_87_method_2_code
def yX51_in : MethodName := ⟨RX51, "in", "(II)Z"⟩
theorem dX51_in_0 : decode cX51_in 0 = .ok (.iload_n 0, 1) := by decide +kernel
theorem dX51_in_1 : decode cX51_in 1 = .ok (.ifCond .lt 12, 3) := by decide +kernel
theorem dX51_in_4 : decode cX51_in 4 = .ok (.iload_n 0, 1) := by decide +kernel
theorem dX51_in_5 : decode cX51_in 5 = .ok (.iload_n 1, 1) := by decide +kernel
theorem dX51_in_6 : decode cX51_in 6 = .ok (.if_icmp .ge 7, 3) := by decide +kernel
theorem dX51_in_9 : decode cX51_in 9 = .ok (.iconst 1, 1) := by decide +kernel
theorem dX51_in_10 : decode cX51_in 10 = .ok (.goto 4, 3) := by decide +kernel
theorem dX51_in_13 : decode cX51_in 13 = .ok (.iconst 0, 1) := by decide +kernel
theorem dX51_in_14 : decode cX51_in 14 = .ok (.ireturn, 1) := by decide +kernel
abbrev cX51_decider : ByteArray := prog_87_method_12_code
def yX51_decider : MethodName := ⟨RX51, "decider", "(II)I"⟩
theorem dX51_decider_0 : decode cX51_decider 0 = .ok (.aload_n 0, 1) := by decide +kernel
theorem dX51_decider_1 : decode cX51_decider 1 = .ok (.iload_n 1, 1) := by decide +kernel
theorem dX51_decider_2 : decode cX51_decider 2 = .ok (.aload_n 0, 1) := by decide +kernel
theorem dX51_decider_3 : decode cX51_decider 3 = .ok (.getfield 42, 3) := by decide +kernel
theorem dX51_decider_6 : decode cX51_decider 6 = .ok (.invokevirtual 60, 3) := by decide +kernel
theorem dX51_decider_9 : decode cX51_decider 9 = .ok (.aload_n 0, 1) := by decide +kernel
theorem dX51_decider_10 : decode cX51_decider 10 = .ok (.iload_n 2, 1) := by decide +kernel
theorem dX51_decider_11 : decode cX51_decider 11 = .ok (.invokevirtual 64, 3) := by decide +kernel
theorem dX51_decider_14 : decode cX51_decider 14 = .ok (.ireturn, 1) := by decide +kernel
abbrev cX51_look : ByteArray := prog_87_method_10_code
def yX51_look : MethodName := ⟨RX51, "look", "(II)V"⟩
theorem dX51_look_0 : decode cX51_look 0 = .ok (.iload_n 1, 1) := by decide +kernel
theorem dX51_look_1 : decode cX51_look 1 = .ok (.invokestatic 53, 3) := by decide +kernel
theorem dX51_look_4 : decode cX51_look 4 = .ok (.istore_n 3, 1) := by decide +kernel
theorem dX51_look_5 : decode cX51_look 5 = .ok (.iload_n 1, 1) := by decide +kernel
theorem dX51_look_6 : decode cX51_look 6 = .ok (.sipush 192, 3) := by decide +kernel
theorem dX51_look_9 : decode cX51_look 9 = .ok (.idiv, 1) := by decide +kernel
theorem dX51_look_10 : decode cX51_look 10 = .ok (.iconst 4, 1) := by decide +kernel
theorem dX51_look_11 : decode cX51_look 11 = .ok (.irem, 1) := by decide +kernel
theorem dX51_look_12 : decode cX51_look 12 = .ok (.istore 4, 2) := by decide +kernel
theorem dX51_look_14 : decode cX51_look 14 = .ok (.iload_n 1, 1) := by decide +kernel
theorem dX51_look_15 : decode cX51_look 15 = .ok (.bipush 32, 2) := by decide +kernel
theorem dX51_look_17 : decode cX51_look 17 = .ok (.idiv, 1) := by decide +kernel
theorem dX51_look_18 : decode cX51_look 18 = .ok (.bipush 6, 2) := by decide +kernel
theorem dX51_look_20 : decode cX51_look 20 = .ok (.irem, 1) := by decide +kernel
theorem dX51_look_21 : decode cX51_look 21 = .ok (.istore 5, 2) := by decide +kernel
theorem dX51_look_23 : decode cX51_look 23 = .ok (.iload_n 1, 1) := by decide +kernel
theorem dX51_look_24 : decode cX51_look 24 = .ok (.bipush 8, 2) := by decide +kernel
theorem dX51_look_26 : decode cX51_look 26 = .ok (.idiv, 1) := by decide +kernel
theorem dX51_look_27 : decode cX51_look 27 = .ok (.iconst 4, 1) := by decide +kernel
theorem dX51_look_28 : decode cX51_look 28 = .ok (.irem, 1) := by decide +kernel
theorem dX51_look_29 : decode cX51_look 29 = .ok (.istore 6, 2) := by decide +kernel
theorem dX51_look_31 : decode cX51_look 31 = .ok (.iload_n 1, 1) := by decide +kernel
theorem dX51_look_32 : decode cX51_look 32 = .ok (.invokestatic 57, 3) := by decide +kernel
theorem dX51_look_35 : decode cX51_look 35 = .ok (.istore 7, 2) := by decide +kernel
theorem dX51_look_37 : decode cX51_look 37 = .ok (.iconst 0, 1) := by decide +kernel
theorem dX51_look_38 : decode cX51_look 38 = .ok (.istore 8, 2) := by decide +kernel
theorem dX51_look_40 : decode cX51_look 40 = .ok (.iload 8, 2) := by decide +kernel
theorem dX51_look_42 : decode cX51_look 42 = .ok (.iload_n 2, 1) := by decide +kernel
theorem dX51_look_43 : decode cX51_look 43 = .ok (.if_icmp .ge 365, 3) := by decide +kernel
theorem dX51_look_46 : decode cX51_look 46 = .ok (.aload_n 0, 1) := by decide +kernel
theorem dX51_look_47 : decode cX51_look 47 = .ok (.getfield 16, 3) := by decide +kernel
theorem dX51_look_50 : decode cX51_look 50 = .ok (.iload 8, 2) := by decide +kernel
theorem dX51_look_52 : decode cX51_look 52 = .ok (.iaload, 1) := by decide +kernel
theorem dX51_look_53 : decode cX51_look 53 = .ok (.istore 9, 2) := by decide +kernel
theorem dX51_look_55 : decode cX51_look 55 = .ok (.aload_n 0, 1) := by decide +kernel
theorem dX51_look_56 : decode cX51_look 56 = .ok (.getfield 19, 3) := by decide +kernel
theorem dX51_look_59 : decode cX51_look 59 = .ok (.iload 8, 2) := by decide +kernel
theorem dX51_look_61 : decode cX51_look 61 = .ok (.iaload, 1) := by decide +kernel
theorem dX51_look_62 : decode cX51_look 62 = .ok (.istore 10, 2) := by decide +kernel
theorem dX51_look_64 : decode cX51_look 64 = .ok (.aload_n 0, 1) := by decide +kernel
theorem dX51_look_65 : decode cX51_look 65 = .ok (.getfield 13, 3) := by decide +kernel
theorem dX51_look_68 : decode cX51_look 68 = .ok (.iload 8, 2) := by decide +kernel
theorem dX51_look_70 : decode cX51_look 70 = .ok (.iaload, 1) := by decide +kernel
theorem dX51_look_71 : decode cX51_look 71 = .ok (.tableswitch 255 0 9 #[53, 69, 94, 111, 128, 145, 169, 189, 219, 249], 53) := by decide +kernel
theorem dX51_look_124 : decode cX51_look 124 = .ok (.iload_n 3, 1) := by decide +kernel
theorem dX51_look_125 : decode cX51_look 125 = .ok (.iload 9, 2) := by decide +kernel
theorem dX51_look_127 : decode cX51_look 127 = .ok (.if_icmp .ne 7, 3) := by decide +kernel
theorem dX51_look_130 : decode cX51_look 130 = .ok (.iconst 1, 1) := by decide +kernel
theorem dX51_look_131 : decode cX51_look 131 = .ok (.goto 4, 3) := by decide +kernel
theorem dX51_look_134 : decode cX51_look 134 = .ok (.iconst 0, 1) := by decide +kernel
theorem dX51_look_135 : decode cX51_look 135 = .ok (.istore 11, 2) := by decide +kernel
theorem dX51_look_137 : decode cX51_look 137 = .ok (.goto 256, 3) := by decide +kernel
theorem dX51_look_140 : decode cX51_look 140 = .ok (.aload_n 0, 1) := by decide +kernel
theorem dX51_look_141 : decode cX51_look 141 = .ok (.getfield 7, 3) := by decide +kernel
theorem dX51_look_144 : decode cX51_look 144 = .ok (.iload_n 3, 1) := by decide +kernel
theorem dX51_look_145 : decode cX51_look 145 = .ok (.iaload, 1) := by decide +kernel
theorem dX51_look_146 : decode cX51_look 146 = .ok (.iload 9, 2) := by decide +kernel
theorem dX51_look_148 : decode cX51_look 148 = .ok (.ishr, 1) := by decide +kernel
theorem dX51_look_149 : decode cX51_look 149 = .ok (.iconst 1, 1) := by decide +kernel
theorem dX51_look_150 : decode cX51_look 150 = .ok (.iand, 1) := by decide +kernel
theorem dX51_look_151 : decode cX51_look 151 = .ok (.iconst 1, 1) := by decide +kernel
theorem dX51_look_152 : decode cX51_look 152 = .ok (.if_icmp .ne 7, 3) := by decide +kernel
theorem dX51_look_155 : decode cX51_look 155 = .ok (.iconst 1, 1) := by decide +kernel
theorem dX51_look_156 : decode cX51_look 156 = .ok (.goto 4, 3) := by decide +kernel
theorem dX51_look_159 : decode cX51_look 159 = .ok (.iconst 0, 1) := by decide +kernel
theorem dX51_look_160 : decode cX51_look 160 = .ok (.istore 11, 2) := by decide +kernel
theorem dX51_look_162 : decode cX51_look 162 = .ok (.goto 231, 3) := by decide +kernel
theorem dX51_look_165 : decode cX51_look 165 = .ok (.iload 4, 2) := by decide +kernel
theorem dX51_look_167 : decode cX51_look 167 = .ok (.iload 9, 2) := by decide +kernel
theorem dX51_look_169 : decode cX51_look 169 = .ok (.if_icmp .ne 7, 3) := by decide +kernel
theorem dX51_look_172 : decode cX51_look 172 = .ok (.iconst 1, 1) := by decide +kernel
theorem dX51_look_173 : decode cX51_look 173 = .ok (.goto 4, 3) := by decide +kernel
theorem dX51_look_176 : decode cX51_look 176 = .ok (.iconst 0, 1) := by decide +kernel
theorem dX51_look_177 : decode cX51_look 177 = .ok (.istore 11, 2) := by decide +kernel
theorem dX51_look_179 : decode cX51_look 179 = .ok (.goto 214, 3) := by decide +kernel
theorem dX51_look_182 : decode cX51_look 182 = .ok (.iload 5, 2) := by decide +kernel
theorem dX51_look_184 : decode cX51_look 184 = .ok (.iload 9, 2) := by decide +kernel
theorem dX51_look_186 : decode cX51_look 186 = .ok (.if_icmp .ne 7, 3) := by decide +kernel
theorem dX51_look_189 : decode cX51_look 189 = .ok (.iconst 1, 1) := by decide +kernel
theorem dX51_look_190 : decode cX51_look 190 = .ok (.goto 4, 3) := by decide +kernel
theorem dX51_look_193 : decode cX51_look 193 = .ok (.iconst 0, 1) := by decide +kernel
theorem dX51_look_194 : decode cX51_look 194 = .ok (.istore 11, 2) := by decide +kernel
theorem dX51_look_196 : decode cX51_look 196 = .ok (.goto 197, 3) := by decide +kernel
theorem dX51_look_199 : decode cX51_look 199 = .ok (.iload 6, 2) := by decide +kernel
theorem dX51_look_201 : decode cX51_look 201 = .ok (.iload 9, 2) := by decide +kernel
theorem dX51_look_203 : decode cX51_look 203 = .ok (.if_icmp .ne 7, 3) := by decide +kernel
theorem dX51_look_206 : decode cX51_look 206 = .ok (.iconst 1, 1) := by decide +kernel
theorem dX51_look_207 : decode cX51_look 207 = .ok (.goto 4, 3) := by decide +kernel
theorem dX51_look_210 : decode cX51_look 210 = .ok (.iconst 0, 1) := by decide +kernel
theorem dX51_look_211 : decode cX51_look 211 = .ok (.istore 11, 2) := by decide +kernel
theorem dX51_look_213 : decode cX51_look 213 = .ok (.goto 180, 3) := by decide +kernel
theorem dX51_look_216 : decode cX51_look 216 = .ok (.iload 7, 2) := by decide +kernel
theorem dX51_look_218 : decode cX51_look 218 = .ok (.iload 9, 2) := by decide +kernel
theorem dX51_look_220 : decode cX51_look 220 = .ok (.if_icmp .lt 14, 3) := by decide +kernel
theorem dX51_look_223 : decode cX51_look 223 = .ok (.iload 7, 2) := by decide +kernel
theorem dX51_look_225 : decode cX51_look 225 = .ok (.iload 10, 2) := by decide +kernel
theorem dX51_look_227 : decode cX51_look 227 = .ok (.if_icmp .gt 7, 3) := by decide +kernel
theorem dX51_look_230 : decode cX51_look 230 = .ok (.iconst 1, 1) := by decide +kernel
theorem dX51_look_231 : decode cX51_look 231 = .ok (.goto 4, 3) := by decide +kernel
theorem dX51_look_234 : decode cX51_look 234 = .ok (.iconst 0, 1) := by decide +kernel
theorem dX51_look_235 : decode cX51_look 235 = .ok (.istore 11, 2) := by decide +kernel
theorem dX51_look_237 : decode cX51_look 237 = .ok (.goto 156, 3) := by decide +kernel
theorem dX51_look_240 : decode cX51_look 240 = .ok (.aload_n 0, 1) := by decide +kernel
theorem dX51_look_241 : decode cX51_look 241 = .ok (.getfield 35, 3) := by decide +kernel
theorem dX51_look_244 : decode cX51_look 244 = .ok (.iload 9, 2) := by decide +kernel
theorem dX51_look_246 : decode cX51_look 246 = .ok (.baload, 1) := by decide +kernel
theorem dX51_look_247 : decode cX51_look 247 = .ok (.ifCond .ne 7, 3) := by decide +kernel
theorem dX51_look_250 : decode cX51_look 250 = .ok (.iconst 1, 1) := by decide +kernel
theorem dX51_look_251 : decode cX51_look 251 = .ok (.goto 4, 3) := by decide +kernel
theorem dX51_look_254 : decode cX51_look 254 = .ok (.iconst 0, 1) := by decide +kernel
theorem dX51_look_255 : decode cX51_look 255 = .ok (.istore 11, 2) := by decide +kernel
theorem dX51_look_257 : decode cX51_look 257 = .ok (.goto 136, 3) := by decide +kernel
theorem dX51_look_260 : decode cX51_look 260 = .ok (.aload_n 0, 1) := by decide +kernel
theorem dX51_look_261 : decode cX51_look 261 = .ok (.getfield 35, 3) := by decide +kernel
theorem dX51_look_264 : decode cX51_look 264 = .ok (.iload 9, 2) := by decide +kernel
theorem dX51_look_266 : decode cX51_look 266 = .ok (.baload, 1) := by decide +kernel
theorem dX51_look_267 : decode cX51_look 267 = .ok (.ifCond .eq 17, 3) := by decide +kernel
theorem dX51_look_270 : decode cX51_look 270 = .ok (.aload_n 0, 1) := by decide +kernel
theorem dX51_look_271 : decode cX51_look 271 = .ok (.getfield 35, 3) := by decide +kernel
theorem dX51_look_274 : decode cX51_look 274 = .ok (.iload 10, 2) := by decide +kernel
theorem dX51_look_276 : decode cX51_look 276 = .ok (.baload, 1) := by decide +kernel
theorem dX51_look_277 : decode cX51_look 277 = .ok (.ifCond .eq 7, 3) := by decide +kernel
theorem dX51_look_280 : decode cX51_look 280 = .ok (.iconst 1, 1) := by decide +kernel
theorem dX51_look_281 : decode cX51_look 281 = .ok (.goto 4, 3) := by decide +kernel
theorem dX51_look_284 : decode cX51_look 284 = .ok (.iconst 0, 1) := by decide +kernel
theorem dX51_look_285 : decode cX51_look 285 = .ok (.istore 11, 2) := by decide +kernel
theorem dX51_look_287 : decode cX51_look 287 = .ok (.goto 106, 3) := by decide +kernel
theorem dX51_look_290 : decode cX51_look 290 = .ok (.aload_n 0, 1) := by decide +kernel
theorem dX51_look_291 : decode cX51_look 291 = .ok (.getfield 35, 3) := by decide +kernel
theorem dX51_look_294 : decode cX51_look 294 = .ok (.iload 9, 2) := by decide +kernel
theorem dX51_look_296 : decode cX51_look 296 = .ok (.baload, 1) := by decide +kernel
theorem dX51_look_297 : decode cX51_look 297 = .ok (.ifCond .ne 13, 3) := by decide +kernel
theorem dX51_look_300 : decode cX51_look 300 = .ok (.aload_n 0, 1) := by decide +kernel
theorem dX51_look_301 : decode cX51_look 301 = .ok (.getfield 35, 3) := by decide +kernel
theorem dX51_look_304 : decode cX51_look 304 = .ok (.iload 10, 2) := by decide +kernel
theorem dX51_look_306 : decode cX51_look 306 = .ok (.baload, 1) := by decide +kernel
theorem dX51_look_307 : decode cX51_look 307 = .ok (.ifCond .eq 7, 3) := by decide +kernel
theorem dX51_look_310 : decode cX51_look 310 = .ok (.iconst 1, 1) := by decide +kernel
theorem dX51_look_311 : decode cX51_look 311 = .ok (.goto 4, 3) := by decide +kernel
theorem dX51_look_314 : decode cX51_look 314 = .ok (.iconst 0, 1) := by decide +kernel
theorem dX51_look_315 : decode cX51_look 315 = .ok (.istore 11, 2) := by decide +kernel
theorem dX51_look_317 : decode cX51_look 317 = .ok (.goto 76, 3) := by decide +kernel
theorem dX51_look_320 : decode cX51_look 320 = .ok (.iconst 1, 1) := by decide +kernel
theorem dX51_look_321 : decode cX51_look 321 = .ok (.istore 11, 2) := by decide +kernel
theorem dX51_look_323 : decode cX51_look 323 = .ok (.goto 70, 3) := by decide +kernel
theorem dX51_look_326 : decode cX51_look 326 = .ok (.aload_n 0, 1) := by decide +kernel
theorem dX51_look_327 : decode cX51_look 327 = .ok (.getfield 22, 3) := by decide +kernel
theorem dX51_look_330 : decode cX51_look 330 = .ok (.iload 8, 2) := by decide +kernel
theorem dX51_look_332 : decode cX51_look 332 = .ok (.iaload, 1) := by decide +kernel
theorem dX51_look_333 : decode cX51_look 333 = .ok (.istore 12, 2) := by decide +kernel
theorem dX51_look_335 : decode cX51_look 335 = .ok (.aload_n 0, 1) := by decide +kernel
theorem dX51_look_336 : decode cX51_look 336 = .ok (.getfield 35, 3) := by decide +kernel
theorem dX51_look_339 : decode cX51_look 339 = .ok (.iload 9, 2) := by decide +kernel
theorem dX51_look_341 : decode cX51_look 341 = .ok (.baload, 1) := by decide +kernel
theorem dX51_look_342 : decode cX51_look 342 = .ok (.ifCond .eq 7, 3) := by decide +kernel
theorem dX51_look_345 : decode cX51_look 345 = .ok (.iconst 1, 1) := by decide +kernel
theorem dX51_look_346 : decode cX51_look 346 = .ok (.goto 4, 3) := by decide +kernel
theorem dX51_look_349 : decode cX51_look 349 = .ok (.iconst 0, 1) := by decide +kernel
theorem dX51_look_350 : decode cX51_look 350 = .ok (.aload_n 0, 1) := by decide +kernel
theorem dX51_look_351 : decode cX51_look 351 = .ok (.getfield 35, 3) := by decide +kernel
theorem dX51_look_354 : decode cX51_look 354 = .ok (.iload 10, 2) := by decide +kernel
theorem dX51_look_356 : decode cX51_look 356 = .ok (.baload, 1) := by decide +kernel
theorem dX51_look_357 : decode cX51_look 357 = .ok (.ifCond .eq 7, 3) := by decide +kernel
theorem dX51_look_360 : decode cX51_look 360 = .ok (.iconst 1, 1) := by decide +kernel
theorem dX51_look_361 : decode cX51_look 361 = .ok (.goto 4, 3) := by decide +kernel
theorem dX51_look_364 : decode cX51_look 364 = .ok (.iconst 0, 1) := by decide +kernel
theorem dX51_look_365 : decode cX51_look 365 = .ok (.iadd, 1) := by decide +kernel
theorem dX51_look_366 : decode cX51_look 366 = .ok (.aload_n 0, 1) := by decide +kernel
theorem dX51_look_367 : decode cX51_look 367 = .ok (.getfield 35, 3) := by decide +kernel
theorem dX51_look_370 : decode cX51_look 370 = .ok (.iload 12, 2) := by decide +kernel
theorem dX51_look_372 : decode cX51_look 372 = .ok (.baload, 1) := by decide +kernel
theorem dX51_look_373 : decode cX51_look 373 = .ok (.ifCond .eq 7, 3) := by decide +kernel
theorem dX51_look_376 : decode cX51_look 376 = .ok (.iconst 1, 1) := by decide +kernel
theorem dX51_look_377 : decode cX51_look 377 = .ok (.goto 4, 3) := by decide +kernel
theorem dX51_look_380 : decode cX51_look 380 = .ok (.iconst 0, 1) := by decide +kernel
theorem dX51_look_381 : decode cX51_look 381 = .ok (.iadd, 1) := by decide +kernel
theorem dX51_look_382 : decode cX51_look 382 = .ok (.iconst 1, 1) := by decide +kernel
theorem dX51_look_383 : decode cX51_look 383 = .ok (.if_icmp .le 7, 3) := by decide +kernel
theorem dX51_look_386 : decode cX51_look 386 = .ok (.iconst 1, 1) := by decide +kernel
theorem dX51_look_387 : decode cX51_look 387 = .ok (.goto 4, 3) := by decide +kernel
theorem dX51_look_390 : decode cX51_look 390 = .ok (.iconst 0, 1) := by decide +kernel
theorem dX51_look_391 : decode cX51_look 391 = .ok (.istore 11, 2) := by decide +kernel
theorem dX51_look_393 : decode cX51_look 393 = .ok (.aload_n 0, 1) := by decide +kernel
theorem dX51_look_394 : decode cX51_look 394 = .ok (.getfield 35, 3) := by decide +kernel
theorem dX51_look_397 : decode cX51_look 397 = .ok (.iload 8, 2) := by decide +kernel
theorem dX51_look_399 : decode cX51_look 399 = .ok (.iload 11, 2) := by decide +kernel
theorem dX51_look_401 : decode cX51_look 401 = .ok (.bastore, 1) := by decide +kernel
theorem dX51_look_402 : decode cX51_look 402 = .ok (.iinc 8 1, 3) := by decide +kernel
theorem dX51_look_405 : decode cX51_look 405 = .ok (.goto (-365), 3) := by decide +kernel
theorem dX51_look_408 : decode cX51_look 408 = .ok (.return_, 1) := by decide +kernel
abbrev cX51_personOf : ByteArray := prog_87_method_8_code
def yX51_personOf : MethodName := ⟨RX51, "personOf", "(I)I"⟩
theorem dX51_personOf_0 : decode cX51_personOf 0 = .ok (.iload_n 0, 1) := by decide +kernel
theorem dX51_personOf_1 : decode cX51_personOf 1 = .ok (.sipush 768, 3) := by decide +kernel
theorem dX51_personOf_4 : decode cX51_personOf 4 = .ok (.idiv, 1) := by decide +kernel
theorem dX51_personOf_5 : decode cX51_personOf 5 = .ok (.ireturn, 1) := by decide +kernel
abbrev cX51_versionOf : ByteArray := prog_87_method_9_code
def yX51_versionOf : MethodName := ⟨RX51, "versionOf", "(I)I"⟩
theorem dX51_versionOf_0 : decode cX51_versionOf 0 = .ok (.iload_n 0, 1) := by decide +kernel
theorem dX51_versionOf_1 : decode cX51_versionOf 1 = .ok (.bipush 8, 2) := by decide +kernel
theorem dX51_versionOf_3 : decode cX51_versionOf 3 = .ok (.irem, 1) := by decide +kernel
theorem dX51_versionOf_4 : decode cX51_versionOf 4 = .ok (.ireturn, 1) := by decide +kernel
abbrev cX51_decide : ByteArray := prog_87_method_11_code
def yX51_decide : MethodName := ⟨RX51, "decide", "(I)I"⟩
theorem dX51_decide_0 : decode cX51_decide 0 = .ok (.iconst (-1), 1) := by decide +kernel
theorem dX51_decide_1 : decode cX51_decide 1 = .ok (.istore_n 2, 1) := by decide +kernel
theorem dX51_decide_2 : decode cX51_decide 2 = .ok (.iconst 0, 1) := by decide +kernel
theorem dX51_decide_3 : decode cX51_decide 3 = .ok (.istore_n 3, 1) := by decide +kernel
theorem dX51_decide_4 : decode cX51_decide 4 = .ok (.iload_n 3, 1) := by decide +kernel
theorem dX51_decide_5 : decode cX51_decide 5 = .ok (.aload_n 0, 1) := by decide +kernel
theorem dX51_decide_6 : decode cX51_decide 6 = .ok (.getfield 50, 3) := by decide +kernel
theorem dX51_decide_9 : decode cX51_decide 9 = .ok (.if_icmp .ge 101, 3) := by decide +kernel
theorem dX51_decide_12 : decode cX51_decide 12 = .ok (.iload_n 3, 1) := by decide +kernel
theorem dX51_decide_13 : decode cX51_decide 13 = .ok (.iload_n 1, 1) := by decide +kernel
theorem dX51_decide_14 : decode cX51_decide 14 = .ok (.if_icmp .eq 90, 3) := by decide +kernel
theorem dX51_decide_17 : decode cX51_decide 17 = .ok (.aload_n 0, 1) := by decide +kernel
theorem dX51_decide_18 : decode cX51_decide 18 = .ok (.getfield 35, 3) := by decide +kernel
theorem dX51_decide_21 : decode cX51_decide 21 = .ok (.aload_n 0, 1) := by decide +kernel
theorem dX51_decide_22 : decode cX51_decide 22 = .ok (.getfield 32, 3) := by decide +kernel
theorem dX51_decide_25 : decode cX51_decide 25 = .ok (.iload_n 3, 1) := by decide +kernel
theorem dX51_decide_26 : decode cX51_decide 26 = .ok (.iaload, 1) := by decide +kernel
theorem dX51_decide_27 : decode cX51_decide 27 = .ok (.baload, 1) := by decide +kernel
theorem dX51_decide_28 : decode cX51_decide 28 = .ok (.ifCond .ne 6, 3) := by decide +kernel
theorem dX51_decide_31 : decode cX51_decide 31 = .ok (.goto 73, 3) := by decide +kernel
theorem dX51_decide_34 : decode cX51_decide 34 = .ok (.iload_n 2, 1) := by decide +kernel
theorem dX51_decide_35 : decode cX51_decide 35 = .ok (.ifCond .lt 51, 3) := by decide +kernel
theorem dX51_decide_38 : decode cX51_decide 38 = .ok (.aload_n 0, 1) := by decide +kernel
theorem dX51_decide_39 : decode cX51_decide 39 = .ok (.getfield 25, 3) := by decide +kernel
theorem dX51_decide_42 : decode cX51_decide 42 = .ok (.iload_n 3, 1) := by decide +kernel
theorem dX51_decide_43 : decode cX51_decide 43 = .ok (.iaload, 1) := by decide +kernel
theorem dX51_decide_44 : decode cX51_decide 44 = .ok (.aload_n 0, 1) := by decide +kernel
theorem dX51_decide_45 : decode cX51_decide 45 = .ok (.getfield 25, 3) := by decide +kernel
theorem dX51_decide_48 : decode cX51_decide 48 = .ok (.iload_n 2, 1) := by decide +kernel
theorem dX51_decide_49 : decode cX51_decide 49 = .ok (.iaload, 1) := by decide +kernel
theorem dX51_decide_50 : decode cX51_decide 50 = .ok (.if_icmp .lt 36, 3) := by decide +kernel
theorem dX51_decide_53 : decode cX51_decide 53 = .ok (.aload_n 0, 1) := by decide +kernel
theorem dX51_decide_54 : decode cX51_decide 54 = .ok (.getfield 25, 3) := by decide +kernel
theorem dX51_decide_57 : decode cX51_decide 57 = .ok (.iload_n 3, 1) := by decide +kernel
theorem dX51_decide_58 : decode cX51_decide 58 = .ok (.iaload, 1) := by decide +kernel
theorem dX51_decide_59 : decode cX51_decide 59 = .ok (.aload_n 0, 1) := by decide +kernel
theorem dX51_decide_60 : decode cX51_decide 60 = .ok (.getfield 25, 3) := by decide +kernel
theorem dX51_decide_63 : decode cX51_decide 63 = .ok (.iload_n 2, 1) := by decide +kernel
theorem dX51_decide_64 : decode cX51_decide 64 = .ok (.iaload, 1) := by decide +kernel
theorem dX51_decide_65 : decode cX51_decide 65 = .ok (.if_icmp .ne 25, 3) := by decide +kernel
theorem dX51_decide_68 : decode cX51_decide 68 = .ok (.aload_n 0, 1) := by decide +kernel
theorem dX51_decide_69 : decode cX51_decide 69 = .ok (.getfield 28, 3) := by decide +kernel
theorem dX51_decide_72 : decode cX51_decide 72 = .ok (.iload_n 3, 1) := by decide +kernel
theorem dX51_decide_73 : decode cX51_decide 73 = .ok (.baload, 1) := by decide +kernel
theorem dX51_decide_74 : decode cX51_decide 74 = .ok (.ifCond .eq 16, 3) := by decide +kernel
theorem dX51_decide_77 : decode cX51_decide 77 = .ok (.aload_n 0, 1) := by decide +kernel
theorem dX51_decide_78 : decode cX51_decide 78 = .ok (.getfield 28, 3) := by decide +kernel
theorem dX51_decide_81 : decode cX51_decide 81 = .ok (.iload_n 2, 1) := by decide +kernel
theorem dX51_decide_82 : decode cX51_decide 82 = .ok (.baload, 1) := by decide +kernel
theorem dX51_decide_83 : decode cX51_decide 83 = .ok (.ifCond .ne 7, 3) := by decide +kernel
theorem dX51_decide_86 : decode cX51_decide 86 = .ok (.iconst 1, 1) := by decide +kernel
theorem dX51_decide_87 : decode cX51_decide 87 = .ok (.goto 4, 3) := by decide +kernel
theorem dX51_decide_90 : decode cX51_decide 90 = .ok (.iconst 0, 1) := by decide +kernel
theorem dX51_decide_91 : decode cX51_decide 91 = .ok (.istore 4, 2) := by decide +kernel
theorem dX51_decide_93 : decode cX51_decide 93 = .ok (.iload 4, 2) := by decide +kernel
theorem dX51_decide_95 : decode cX51_decide 95 = .ok (.ifCond .eq 7, 3) := by decide +kernel
theorem dX51_decide_98 : decode cX51_decide 98 = .ok (.iload_n 3, 1) := by decide +kernel
theorem dX51_decide_99 : decode cX51_decide 99 = .ok (.goto 4, 3) := by decide +kernel
theorem dX51_decide_102 : decode cX51_decide 102 = .ok (.iload_n 2, 1) := by decide +kernel
theorem dX51_decide_103 : decode cX51_decide 103 = .ok (.istore_n 2, 1) := by decide +kernel
theorem dX51_decide_104 : decode cX51_decide 104 = .ok (.iinc 3 1, 3) := by decide +kernel
theorem dX51_decide_107 : decode cX51_decide 107 = .ok (.goto (-103), 3) := by decide +kernel
theorem dX51_decide_110 : decode cX51_decide 110 = .ok (.iload_n 2, 1) := by decide +kernel
theorem dX51_decide_111 : decode cX51_decide 111 = .ok (.ireturn, 1) := by decide +kernel
abbrev cX51_member : ByteArray := prog_87_method_3_code
def yX51_member : MethodName := ⟨RX51, "member", "(IIZ)I"⟩
theorem dX51_member_0 : decode cX51_member 0 = .ok (.iload_n 1, 1) := by decide +kernel
theorem dX51_member_1 : decode cX51_member 1 = .ok (.bipush 8, 2) := by decide +kernel
theorem dX51_member_3 : decode cX51_member 3 = .ok (.invokestatic 38, 3) := by decide +kernel
theorem dX51_member_6 : decode cX51_member 6 = .ok (.ifCond .eq 12, 3) := by decide +kernel
theorem dX51_member_9 : decode cX51_member 9 = .ok (.iload_n 2, 1) := by decide +kernel
theorem dX51_member_10 : decode cX51_member 10 = .ok (.bipush 8, 2) := by decide +kernel
theorem dX51_member_12 : decode cX51_member 12 = .ok (.invokestatic 38, 3) := by decide +kernel
theorem dX51_member_15 : decode cX51_member 15 = .ok (.ifCond .ne 5, 3) := by decide +kernel
theorem dX51_member_18 : decode cX51_member 18 = .ok (.iconst (-1), 1) := by decide +kernel
theorem dX51_member_19 : decode cX51_member 19 = .ok (.ireturn, 1) := by decide +kernel
theorem dX51_member_20 : decode cX51_member 20 = .ok (.aload_n 0, 1) := by decide +kernel
theorem dX51_member_21 : decode cX51_member 21 = .ok (.getfield 7, 3) := by decide +kernel
theorem dX51_member_24 : decode cX51_member 24 = .ok (.iload_n 1, 1) := by decide +kernel
theorem dX51_member_25 : decode cX51_member 25 = .ok (.iaload, 1) := by decide +kernel
theorem dX51_member_26 : decode cX51_member 26 = .ok (.iload_n 2, 1) := by decide +kernel
theorem dX51_member_27 : decode cX51_member 27 = .ok (.ishr, 1) := by decide +kernel
theorem dX51_member_28 : decode cX51_member 28 = .ok (.iconst 1, 1) := by decide +kernel
theorem dX51_member_29 : decode cX51_member 29 = .ok (.iand, 1) := by decide +kernel
theorem dX51_member_30 : decode cX51_member 30 = .ok (.iconst 1, 1) := by decide +kernel
theorem dX51_member_31 : decode cX51_member 31 = .ok (.if_icmp .ne 7, 3) := by decide +kernel
theorem dX51_member_34 : decode cX51_member 34 = .ok (.iconst 1, 1) := by decide +kernel
theorem dX51_member_35 : decode cX51_member 35 = .ok (.goto 4, 3) := by decide +kernel
theorem dX51_member_38 : decode cX51_member 38 = .ok (.iconst 0, 1) := by decide +kernel
theorem dX51_member_39 : decode cX51_member 39 = .ok (.istore 4, 2) := by decide +kernel
theorem dX51_member_41 : decode cX51_member 41 = .ok (.iload 4, 2) := by decide +kernel
theorem dX51_member_43 : decode cX51_member 43 = .ok (.iload_n 3, 1) := by decide +kernel
theorem dX51_member_44 : decode cX51_member 44 = .ok (.if_icmp .ne 5, 3) := by decide +kernel
theorem dX51_member_47 : decode cX51_member 47 = .ok (.iconst 0, 1) := by decide +kernel
theorem dX51_member_48 : decode cX51_member 48 = .ok (.ireturn, 1) := by decide +kernel
theorem dX51_member_49 : decode cX51_member 49 = .ok (.aload_n 0, 1) := by decide +kernel
theorem dX51_member_50 : decode cX51_member 50 = .ok (.getfield 7, 3) := by decide +kernel
theorem dX51_member_53 : decode cX51_member 53 = .ok (.iload_n 1, 1) := by decide +kernel
theorem dX51_member_54 : decode cX51_member 54 = .ok (.dup2, 1) := by decide +kernel
theorem dX51_member_55 : decode cX51_member 55 = .ok (.iaload, 1) := by decide +kernel
theorem dX51_member_56 : decode cX51_member 56 = .ok (.iconst 1, 1) := by decide +kernel
theorem dX51_member_57 : decode cX51_member 57 = .ok (.iload_n 2, 1) := by decide +kernel
theorem dX51_member_58 : decode cX51_member 58 = .ok (.ishl, 1) := by decide +kernel
theorem dX51_member_59 : decode cX51_member 59 = .ok (.ixor, 1) := by decide +kernel
theorem dX51_member_60 : decode cX51_member 60 = .ok (.iastore, 1) := by decide +kernel
theorem dX51_member_61 : decode cX51_member 61 = .ok (.iconst 1, 1) := by decide +kernel
theorem dX51_member_62 : decode cX51_member 62 = .ok (.ireturn, 1) := by decide +kernel
abbrev cX51_condition : ByteArray := prog_87_method_5_code
def yX51_condition : MethodName := ⟨RX51, "condition", "(IIII)I"⟩
theorem dX51_condition_0 : decode cX51_condition 0 = .ok (.aload_n 0, 1) := by decide +kernel
theorem dX51_condition_1 : decode cX51_condition 1 = .ok (.iload_n 1, 1) := by decide +kernel
theorem dX51_condition_2 : decode cX51_condition 2 = .ok (.iload_n 2, 1) := by decide +kernel
theorem dX51_condition_3 : decode cX51_condition 3 = .ok (.iload_n 3, 1) := by decide +kernel
theorem dX51_condition_4 : decode cX51_condition 4 = .ok (.iload 4, 2) := by decide +kernel
theorem dX51_condition_6 : decode cX51_condition 6 = .ok (.invokevirtual 46, 3) := by decide +kernel
theorem dX51_condition_9 : decode cX51_condition 9 = .ok (.ifCond .ne 5, 3) := by decide +kernel
theorem dX51_condition_12 : decode cX51_condition 12 = .ok (.iconst (-1), 1) := by decide +kernel
theorem dX51_condition_13 : decode cX51_condition 13 = .ok (.ireturn, 1) := by decide +kernel
theorem dX51_condition_14 : decode cX51_condition 14 = .ok (.aload_n 0, 1) := by decide +kernel
theorem dX51_condition_15 : decode cX51_condition 15 = .ok (.getfield 42, 3) := by decide +kernel
theorem dX51_condition_18 : decode cX51_condition 18 = .ok (.bipush 60, 2) := by decide +kernel
theorem dX51_condition_20 : decode cX51_condition 20 = .ok (.if_icmp .ne 6, 3) := by decide +kernel
theorem dX51_condition_23 : decode cX51_condition 23 = .ok (.bipush (-3), 2) := by decide +kernel
theorem dX51_condition_25 : decode cX51_condition 25 = .ok (.ireturn, 1) := by decide +kernel
theorem dX51_condition_26 : decode cX51_condition 26 = .ok (.aload_n 0, 1) := by decide +kernel
theorem dX51_condition_27 : decode cX51_condition 27 = .ok (.getfield 13, 3) := by decide +kernel
theorem dX51_condition_30 : decode cX51_condition 30 = .ok (.aload_n 0, 1) := by decide +kernel
theorem dX51_condition_31 : decode cX51_condition 31 = .ok (.getfield 42, 3) := by decide +kernel
theorem dX51_condition_34 : decode cX51_condition 34 = .ok (.iload_n 1, 1) := by decide +kernel
theorem dX51_condition_35 : decode cX51_condition 35 = .ok (.iastore, 1) := by decide +kernel
theorem dX51_condition_36 : decode cX51_condition 36 = .ok (.aload_n 0, 1) := by decide +kernel
theorem dX51_condition_37 : decode cX51_condition 37 = .ok (.getfield 16, 3) := by decide +kernel
theorem dX51_condition_40 : decode cX51_condition 40 = .ok (.aload_n 0, 1) := by decide +kernel
theorem dX51_condition_41 : decode cX51_condition 41 = .ok (.getfield 42, 3) := by decide +kernel
theorem dX51_condition_44 : decode cX51_condition 44 = .ok (.iload_n 2, 1) := by decide +kernel
theorem dX51_condition_45 : decode cX51_condition 45 = .ok (.iastore, 1) := by decide +kernel
theorem dX51_condition_46 : decode cX51_condition 46 = .ok (.aload_n 0, 1) := by decide +kernel
theorem dX51_condition_47 : decode cX51_condition 47 = .ok (.getfield 19, 3) := by decide +kernel
theorem dX51_condition_50 : decode cX51_condition 50 = .ok (.aload_n 0, 1) := by decide +kernel
theorem dX51_condition_51 : decode cX51_condition 51 = .ok (.getfield 42, 3) := by decide +kernel
theorem dX51_condition_54 : decode cX51_condition 54 = .ok (.iload_n 3, 1) := by decide +kernel
theorem dX51_condition_55 : decode cX51_condition 55 = .ok (.iastore, 1) := by decide +kernel
theorem dX51_condition_56 : decode cX51_condition 56 = .ok (.aload_n 0, 1) := by decide +kernel
theorem dX51_condition_57 : decode cX51_condition 57 = .ok (.getfield 22, 3) := by decide +kernel
theorem dX51_condition_60 : decode cX51_condition 60 = .ok (.aload_n 0, 1) := by decide +kernel
theorem dX51_condition_61 : decode cX51_condition 61 = .ok (.getfield 42, 3) := by decide +kernel
theorem dX51_condition_64 : decode cX51_condition 64 = .ok (.iload 4, 2) := by decide +kernel
theorem dX51_condition_66 : decode cX51_condition 66 = .ok (.iastore, 1) := by decide +kernel
theorem dX51_condition_67 : decode cX51_condition 67 = .ok (.aload_n 0, 1) := by decide +kernel
theorem dX51_condition_68 : decode cX51_condition 68 = .ok (.dup, 1) := by decide +kernel
theorem dX51_condition_69 : decode cX51_condition 69 = .ok (.getfield 42, 3) := by decide +kernel
theorem dX51_condition_72 : decode cX51_condition 72 = .ok (.iconst 1, 1) := by decide +kernel
theorem dX51_condition_73 : decode cX51_condition 73 = .ok (.iadd, 1) := by decide +kernel
theorem dX51_condition_74 : decode cX51_condition 74 = .ok (.putfield 42, 3) := by decide +kernel
theorem dX51_condition_77 : decode cX51_condition 77 = .ok (.aload_n 0, 1) := by decide +kernel
theorem dX51_condition_78 : decode cX51_condition 78 = .ok (.getfield 42, 3) := by decide +kernel
theorem dX51_condition_81 : decode cX51_condition 81 = .ok (.iconst 1, 1) := by decide +kernel
theorem dX51_condition_82 : decode cX51_condition 82 = .ok (.isub, 1) := by decide +kernel
theorem dX51_condition_83 : decode cX51_condition 83 = .ok (.ireturn, 1) := by decide +kernel
abbrev cX51_fits : ByteArray := prog_87_method_4_code
def yX51_fits : MethodName := ⟨RX51, "fits", "(IIII)Z"⟩
theorem dX51_fits_0 : decode cX51_fits 0 = .ok (.iload_n 1, 1) := by decide +kernel
theorem dX51_fits_1 : decode cX51_fits 1 = .ok (.tableswitch 187 0 10 #[59, 59, 66, 72, 66, 79, 108, 117, 117, 145, 147], 59) := by decide +kernel
theorem dX51_fits_60 : decode cX51_fits 60 = .ok (.iload_n 2, 1) := by decide +kernel
theorem dX51_fits_61 : decode cX51_fits 61 = .ok (.bipush 8, 2) := by decide +kernel
theorem dX51_fits_63 : decode cX51_fits 63 = .ok (.invokestatic 38, 3) := by decide +kernel
theorem dX51_fits_66 : decode cX51_fits 66 = .ok (.ireturn, 1) := by decide +kernel
theorem dX51_fits_67 : decode cX51_fits 67 = .ok (.iload_n 2, 1) := by decide +kernel
theorem dX51_fits_68 : decode cX51_fits 68 = .ok (.iconst 4, 1) := by decide +kernel
theorem dX51_fits_69 : decode cX51_fits 69 = .ok (.invokestatic 38, 3) := by decide +kernel
theorem dX51_fits_72 : decode cX51_fits 72 = .ok (.ireturn, 1) := by decide +kernel
theorem dX51_fits_73 : decode cX51_fits 73 = .ok (.iload_n 2, 1) := by decide +kernel
theorem dX51_fits_74 : decode cX51_fits 74 = .ok (.bipush 6, 2) := by decide +kernel
theorem dX51_fits_76 : decode cX51_fits 76 = .ok (.invokestatic 38, 3) := by decide +kernel
theorem dX51_fits_79 : decode cX51_fits 79 = .ok (.ireturn, 1) := by decide +kernel
theorem dX51_fits_80 : decode cX51_fits 80 = .ok (.iload_n 2, 1) := by decide +kernel
theorem dX51_fits_81 : decode cX51_fits 81 = .ok (.bipush 8, 2) := by decide +kernel
theorem dX51_fits_83 : decode cX51_fits 83 = .ok (.invokestatic 38, 3) := by decide +kernel
theorem dX51_fits_86 : decode cX51_fits 86 = .ok (.ifCond .eq 21, 3) := by decide +kernel
theorem dX51_fits_89 : decode cX51_fits 89 = .ok (.iload_n 3, 1) := by decide +kernel
theorem dX51_fits_90 : decode cX51_fits 90 = .ok (.bipush 8, 2) := by decide +kernel
theorem dX51_fits_92 : decode cX51_fits 92 = .ok (.invokestatic 38, 3) := by decide +kernel
theorem dX51_fits_95 : decode cX51_fits 95 = .ok (.ifCond .eq 12, 3) := by decide +kernel
theorem dX51_fits_98 : decode cX51_fits 98 = .ok (.iload_n 2, 1) := by decide +kernel
theorem dX51_fits_99 : decode cX51_fits 99 = .ok (.iload_n 3, 1) := by decide +kernel
theorem dX51_fits_100 : decode cX51_fits 100 = .ok (.if_icmp .gt 7, 3) := by decide +kernel
theorem dX51_fits_103 : decode cX51_fits 103 = .ok (.iconst 1, 1) := by decide +kernel
theorem dX51_fits_104 : decode cX51_fits 104 = .ok (.goto 4, 3) := by decide +kernel
theorem dX51_fits_107 : decode cX51_fits 107 = .ok (.iconst 0, 1) := by decide +kernel
theorem dX51_fits_108 : decode cX51_fits 108 = .ok (.ireturn, 1) := by decide +kernel
theorem dX51_fits_109 : decode cX51_fits 109 = .ok (.iload_n 2, 1) := by decide +kernel
theorem dX51_fits_110 : decode cX51_fits 110 = .ok (.aload_n 0, 1) := by decide +kernel
theorem dX51_fits_111 : decode cX51_fits 111 = .ok (.getfield 42, 3) := by decide +kernel
theorem dX51_fits_114 : decode cX51_fits 114 = .ok (.invokestatic 38, 3) := by decide +kernel
theorem dX51_fits_117 : decode cX51_fits 117 = .ok (.ireturn, 1) := by decide +kernel
theorem dX51_fits_118 : decode cX51_fits 118 = .ok (.iload_n 2, 1) := by decide +kernel
theorem dX51_fits_119 : decode cX51_fits 119 = .ok (.aload_n 0, 1) := by decide +kernel
theorem dX51_fits_120 : decode cX51_fits 120 = .ok (.getfield 42, 3) := by decide +kernel
theorem dX51_fits_123 : decode cX51_fits 123 = .ok (.invokestatic 38, 3) := by decide +kernel
theorem dX51_fits_126 : decode cX51_fits 126 = .ok (.ifCond .eq 18, 3) := by decide +kernel
theorem dX51_fits_129 : decode cX51_fits 129 = .ok (.iload_n 3, 1) := by decide +kernel
theorem dX51_fits_130 : decode cX51_fits 130 = .ok (.aload_n 0, 1) := by decide +kernel
theorem dX51_fits_131 : decode cX51_fits 131 = .ok (.getfield 42, 3) := by decide +kernel
theorem dX51_fits_134 : decode cX51_fits 134 = .ok (.invokestatic 38, 3) := by decide +kernel
theorem dX51_fits_137 : decode cX51_fits 137 = .ok (.ifCond .eq 7, 3) := by decide +kernel
theorem dX51_fits_140 : decode cX51_fits 140 = .ok (.iconst 1, 1) := by decide +kernel
theorem dX51_fits_141 : decode cX51_fits 141 = .ok (.goto 4, 3) := by decide +kernel
theorem dX51_fits_144 : decode cX51_fits 144 = .ok (.iconst 0, 1) := by decide +kernel
theorem dX51_fits_145 : decode cX51_fits 145 = .ok (.ireturn, 1) := by decide +kernel
theorem dX51_fits_146 : decode cX51_fits 146 = .ok (.iconst 1, 1) := by decide +kernel
theorem dX51_fits_147 : decode cX51_fits 147 = .ok (.ireturn, 1) := by decide +kernel
theorem dX51_fits_148 : decode cX51_fits 148 = .ok (.iload_n 2, 1) := by decide +kernel
theorem dX51_fits_149 : decode cX51_fits 149 = .ok (.aload_n 0, 1) := by decide +kernel
theorem dX51_fits_150 : decode cX51_fits 150 = .ok (.getfield 42, 3) := by decide +kernel
theorem dX51_fits_153 : decode cX51_fits 153 = .ok (.invokestatic 38, 3) := by decide +kernel
theorem dX51_fits_156 : decode cX51_fits 156 = .ok (.ifCond .eq 30, 3) := by decide +kernel
theorem dX51_fits_159 : decode cX51_fits 159 = .ok (.iload_n 3, 1) := by decide +kernel
theorem dX51_fits_160 : decode cX51_fits 160 = .ok (.aload_n 0, 1) := by decide +kernel
theorem dX51_fits_161 : decode cX51_fits 161 = .ok (.getfield 42, 3) := by decide +kernel
theorem dX51_fits_164 : decode cX51_fits 164 = .ok (.invokestatic 38, 3) := by decide +kernel
theorem dX51_fits_167 : decode cX51_fits 167 = .ok (.ifCond .eq 19, 3) := by decide +kernel
theorem dX51_fits_170 : decode cX51_fits 170 = .ok (.iload 4, 2) := by decide +kernel
theorem dX51_fits_172 : decode cX51_fits 172 = .ok (.aload_n 0, 1) := by decide +kernel
theorem dX51_fits_173 : decode cX51_fits 173 = .ok (.getfield 42, 3) := by decide +kernel
theorem dX51_fits_176 : decode cX51_fits 176 = .ok (.invokestatic 38, 3) := by decide +kernel
theorem dX51_fits_179 : decode cX51_fits 179 = .ok (.ifCond .eq 7, 3) := by decide +kernel
theorem dX51_fits_182 : decode cX51_fits 182 = .ok (.iconst 1, 1) := by decide +kernel
theorem dX51_fits_183 : decode cX51_fits 183 = .ok (.goto 4, 3) := by decide +kernel
theorem dX51_fits_186 : decode cX51_fits 186 = .ok (.iconst 0, 1) := by decide +kernel
theorem dX51_fits_187 : decode cX51_fits 187 = .ok (.ireturn, 1) := by decide +kernel
theorem dX51_fits_188 : decode cX51_fits 188 = .ok (.iconst 0, 1) := by decide +kernel
theorem dX51_fits_189 : decode cX51_fits 189 = .ok (.ireturn, 1) := by decide +kernel
abbrev cX51_rule : ByteArray := prog_87_method_6_code
def yX51_rule : MethodName := ⟨RX51, "rule", "(IZI)I"⟩
theorem dX51_rule_0 : decode cX51_rule 0 = .ok (.iload_n 1, 1) := by decide +kernel
theorem dX51_rule_1 : decode cX51_rule 1 = .ok (.bipush 10, 2) := by decide +kernel
theorem dX51_rule_3 : decode cX51_rule 3 = .ok (.invokestatic 38, 3) := by decide +kernel
theorem dX51_rule_6 : decode cX51_rule 6 = .ok (.ifCond .eq 14, 3) := by decide +kernel
theorem dX51_rule_9 : decode cX51_rule 9 = .ok (.iload_n 3, 1) := by decide +kernel
theorem dX51_rule_10 : decode cX51_rule 10 = .ok (.aload_n 0, 1) := by decide +kernel
theorem dX51_rule_11 : decode cX51_rule 11 = .ok (.getfield 42, 3) := by decide +kernel
theorem dX51_rule_14 : decode cX51_rule 14 = .ok (.invokestatic 38, 3) := by decide +kernel
theorem dX51_rule_17 : decode cX51_rule 17 = .ok (.ifCond .ne 5, 3) := by decide +kernel
theorem dX51_rule_20 : decode cX51_rule 20 = .ok (.iconst (-1), 1) := by decide +kernel
theorem dX51_rule_21 : decode cX51_rule 21 = .ok (.ireturn, 1) := by decide +kernel
theorem dX51_rule_22 : decode cX51_rule 22 = .ok (.aload_n 0, 1) := by decide +kernel
theorem dX51_rule_23 : decode cX51_rule 23 = .ok (.getfield 50, 3) := by decide +kernel
theorem dX51_rule_26 : decode cX51_rule 26 = .ok (.bipush 20, 2) := by decide +kernel
theorem dX51_rule_28 : decode cX51_rule 28 = .ok (.if_icmp .ne 6, 3) := by decide +kernel
theorem dX51_rule_31 : decode cX51_rule 31 = .ok (.bipush (-3), 2) := by decide +kernel
theorem dX51_rule_33 : decode cX51_rule 33 = .ok (.ireturn, 1) := by decide +kernel
theorem dX51_rule_34 : decode cX51_rule 34 = .ok (.aload_n 0, 1) := by decide +kernel
theorem dX51_rule_35 : decode cX51_rule 35 = .ok (.getfield 25, 3) := by decide +kernel
theorem dX51_rule_38 : decode cX51_rule 38 = .ok (.aload_n 0, 1) := by decide +kernel
theorem dX51_rule_39 : decode cX51_rule 39 = .ok (.getfield 50, 3) := by decide +kernel
theorem dX51_rule_42 : decode cX51_rule 42 = .ok (.iload_n 1, 1) := by decide +kernel
theorem dX51_rule_43 : decode cX51_rule 43 = .ok (.iastore, 1) := by decide +kernel
theorem dX51_rule_44 : decode cX51_rule 44 = .ok (.aload_n 0, 1) := by decide +kernel
theorem dX51_rule_45 : decode cX51_rule 45 = .ok (.getfield 28, 3) := by decide +kernel
theorem dX51_rule_48 : decode cX51_rule 48 = .ok (.aload_n 0, 1) := by decide +kernel
theorem dX51_rule_49 : decode cX51_rule 49 = .ok (.getfield 50, 3) := by decide +kernel
theorem dX51_rule_52 : decode cX51_rule 52 = .ok (.iload_n 2, 1) := by decide +kernel
theorem dX51_rule_53 : decode cX51_rule 53 = .ok (.bastore, 1) := by decide +kernel
theorem dX51_rule_54 : decode cX51_rule 54 = .ok (.aload_n 0, 1) := by decide +kernel
theorem dX51_rule_55 : decode cX51_rule 55 = .ok (.getfield 32, 3) := by decide +kernel
theorem dX51_rule_58 : decode cX51_rule 58 = .ok (.aload_n 0, 1) := by decide +kernel
theorem dX51_rule_59 : decode cX51_rule 59 = .ok (.getfield 50, 3) := by decide +kernel
theorem dX51_rule_62 : decode cX51_rule 62 = .ok (.iload_n 3, 1) := by decide +kernel
theorem dX51_rule_63 : decode cX51_rule 63 = .ok (.iastore, 1) := by decide +kernel
theorem dX51_rule_64 : decode cX51_rule 64 = .ok (.aload_n 0, 1) := by decide +kernel
theorem dX51_rule_65 : decode cX51_rule 65 = .ok (.dup, 1) := by decide +kernel
theorem dX51_rule_66 : decode cX51_rule 66 = .ok (.getfield 50, 3) := by decide +kernel
theorem dX51_rule_69 : decode cX51_rule 69 = .ok (.iconst 1, 1) := by decide +kernel
theorem dX51_rule_70 : decode cX51_rule 70 = .ok (.iadd, 1) := by decide +kernel
theorem dX51_rule_71 : decode cX51_rule 71 = .ok (.putfield 50, 3) := by decide +kernel
theorem dX51_rule_74 : decode cX51_rule 74 = .ok (.aload_n 0, 1) := by decide +kernel
theorem dX51_rule_75 : decode cX51_rule 75 = .ok (.getfield 50, 3) := by decide +kernel
theorem dX51_rule_78 : decode cX51_rule 78 = .ok (.iconst 1, 1) := by decide +kernel
theorem dX51_rule_79 : decode cX51_rule 79 = .ok (.isub, 1) := by decide +kernel
theorem dX51_rule_80 : decode cX51_rule 80 = .ok (.ireturn, 1) := by decide +kernel
abbrev cX51_drop : ByteArray := prog_87_method_7_code
def yX51_drop : MethodName := ⟨RX51, "drop", "(I)I"⟩
theorem dX51_drop_0 : decode cX51_drop 0 = .ok (.iload_n 1, 1) := by decide +kernel
theorem dX51_drop_1 : decode cX51_drop 1 = .ok (.aload_n 0, 1) := by decide +kernel
theorem dX51_drop_2 : decode cX51_drop 2 = .ok (.getfield 50, 3) := by decide +kernel
theorem dX51_drop_5 : decode cX51_drop 5 = .ok (.invokestatic 38, 3) := by decide +kernel
theorem dX51_drop_8 : decode cX51_drop 8 = .ok (.ifCond .ne 5, 3) := by decide +kernel
theorem dX51_drop_11 : decode cX51_drop 11 = .ok (.iconst (-1), 1) := by decide +kernel
theorem dX51_drop_12 : decode cX51_drop 12 = .ok (.ireturn, 1) := by decide +kernel
theorem dX51_drop_13 : decode cX51_drop 13 = .ok (.aload_n 0, 1) := by decide +kernel
theorem dX51_drop_14 : decode cX51_drop 14 = .ok (.dup, 1) := by decide +kernel
theorem dX51_drop_15 : decode cX51_drop 15 = .ok (.getfield 50, 3) := by decide +kernel
theorem dX51_drop_18 : decode cX51_drop 18 = .ok (.iconst 1, 1) := by decide +kernel
theorem dX51_drop_19 : decode cX51_drop 19 = .ok (.isub, 1) := by decide +kernel
theorem dX51_drop_20 : decode cX51_drop 20 = .ok (.putfield 50, 3) := by decide +kernel
theorem dX51_drop_23 : decode cX51_drop 23 = .ok (.iload_n 1, 1) := by decide +kernel
theorem dX51_drop_24 : decode cX51_drop 24 = .ok (.istore_n 2, 1) := by decide +kernel
theorem dX51_drop_25 : decode cX51_drop 25 = .ok (.iload_n 2, 1) := by decide +kernel
theorem dX51_drop_26 : decode cX51_drop 26 = .ok (.aload_n 0, 1) := by decide +kernel
theorem dX51_drop_27 : decode cX51_drop 27 = .ok (.getfield 50, 3) := by decide +kernel
theorem dX51_drop_30 : decode cX51_drop 30 = .ok (.if_icmp .ge 51, 3) := by decide +kernel
theorem dX51_drop_33 : decode cX51_drop 33 = .ok (.aload_n 0, 1) := by decide +kernel
theorem dX51_drop_34 : decode cX51_drop 34 = .ok (.getfield 25, 3) := by decide +kernel
theorem dX51_drop_37 : decode cX51_drop 37 = .ok (.iload_n 2, 1) := by decide +kernel
theorem dX51_drop_38 : decode cX51_drop 38 = .ok (.aload_n 0, 1) := by decide +kernel
theorem dX51_drop_39 : decode cX51_drop 39 = .ok (.getfield 25, 3) := by decide +kernel
theorem dX51_drop_42 : decode cX51_drop 42 = .ok (.iload_n 2, 1) := by decide +kernel
theorem dX51_drop_43 : decode cX51_drop 43 = .ok (.iconst 1, 1) := by decide +kernel
theorem dX51_drop_44 : decode cX51_drop 44 = .ok (.iadd, 1) := by decide +kernel
theorem dX51_drop_45 : decode cX51_drop 45 = .ok (.iaload, 1) := by decide +kernel
theorem dX51_drop_46 : decode cX51_drop 46 = .ok (.iastore, 1) := by decide +kernel
theorem dX51_drop_47 : decode cX51_drop 47 = .ok (.aload_n 0, 1) := by decide +kernel
theorem dX51_drop_48 : decode cX51_drop 48 = .ok (.getfield 28, 3) := by decide +kernel
theorem dX51_drop_51 : decode cX51_drop 51 = .ok (.iload_n 2, 1) := by decide +kernel
theorem dX51_drop_52 : decode cX51_drop 52 = .ok (.aload_n 0, 1) := by decide +kernel
theorem dX51_drop_53 : decode cX51_drop 53 = .ok (.getfield 28, 3) := by decide +kernel
theorem dX51_drop_56 : decode cX51_drop 56 = .ok (.iload_n 2, 1) := by decide +kernel
theorem dX51_drop_57 : decode cX51_drop 57 = .ok (.iconst 1, 1) := by decide +kernel
theorem dX51_drop_58 : decode cX51_drop 58 = .ok (.iadd, 1) := by decide +kernel
theorem dX51_drop_59 : decode cX51_drop 59 = .ok (.baload, 1) := by decide +kernel
theorem dX51_drop_60 : decode cX51_drop 60 = .ok (.bastore, 1) := by decide +kernel
theorem dX51_drop_61 : decode cX51_drop 61 = .ok (.aload_n 0, 1) := by decide +kernel
theorem dX51_drop_62 : decode cX51_drop 62 = .ok (.getfield 32, 3) := by decide +kernel
theorem dX51_drop_65 : decode cX51_drop 65 = .ok (.iload_n 2, 1) := by decide +kernel
theorem dX51_drop_66 : decode cX51_drop 66 = .ok (.aload_n 0, 1) := by decide +kernel
theorem dX51_drop_67 : decode cX51_drop 67 = .ok (.getfield 32, 3) := by decide +kernel
theorem dX51_drop_70 : decode cX51_drop 70 = .ok (.iload_n 2, 1) := by decide +kernel
theorem dX51_drop_71 : decode cX51_drop 71 = .ok (.iconst 1, 1) := by decide +kernel
theorem dX51_drop_72 : decode cX51_drop 72 = .ok (.iadd, 1) := by decide +kernel
theorem dX51_drop_73 : decode cX51_drop 73 = .ok (.iaload, 1) := by decide +kernel
theorem dX51_drop_74 : decode cX51_drop 74 = .ok (.iastore, 1) := by decide +kernel
theorem dX51_drop_75 : decode cX51_drop 75 = .ok (.iinc 2 1, 3) := by decide +kernel
theorem dX51_drop_78 : decode cX51_drop 78 = .ok (.goto (-53), 3) := by decide +kernel
theorem dX51_drop_81 : decode cX51_drop 81 = .ok (.aload_n 0, 1) := by decide +kernel
theorem dX51_drop_82 : decode cX51_drop 82 = .ok (.getfield 50, 3) := by decide +kernel
theorem dX51_drop_85 : decode cX51_drop 85 = .ok (.ireturn, 1) := by decide +kernel
abbrev cX51_asks : ByteArray := prog_87_method_16_code
def yX51_asks : MethodName := ⟨RX51, "asks", "(I)I"⟩
theorem dX51_asks_0 : decode cX51_asks 0 = .ok (.iload_n 1, 1) := by decide +kernel
theorem dX51_asks_1 : decode cX51_asks 1 = .ok (.aload_n 0, 1) := by decide +kernel
theorem dX51_asks_2 : decode cX51_asks 2 = .ok (.getfield 42, 3) := by decide +kernel
theorem dX51_asks_5 : decode cX51_asks 5 = .ok (.invokestatic 38, 3) := by decide +kernel
theorem dX51_asks_8 : decode cX51_asks 8 = .ok (.ifCond .ne 5, 3) := by decide +kernel
theorem dX51_asks_11 : decode cX51_asks 11 = .ok (.iconst (-1), 1) := by decide +kernel
theorem dX51_asks_12 : decode cX51_asks 12 = .ok (.ireturn, 1) := by decide +kernel
theorem dX51_asks_13 : decode cX51_asks 13 = .ok (.iconst 0, 1) := by decide +kernel
theorem dX51_asks_14 : decode cX51_asks 14 = .ok (.istore_n 2, 1) := by decide +kernel
theorem dX51_asks_15 : decode cX51_asks 15 = .ok (.iconst 0, 1) := by decide +kernel
theorem dX51_asks_16 : decode cX51_asks 16 = .ok (.istore_n 3, 1) := by decide +kernel
theorem dX51_asks_17 : decode cX51_asks 17 = .ok (.iload_n 3, 1) := by decide +kernel
theorem dX51_asks_18 : decode cX51_asks 18 = .ok (.sipush 6144, 3) := by decide +kernel
theorem dX51_asks_21 : decode cX51_asks 21 = .ok (.if_icmp .ge 26, 3) := by decide +kernel
theorem dX51_asks_24 : decode cX51_asks 24 = .ok (.iload_n 2, 1) := by decide +kernel
theorem dX51_asks_25 : decode cX51_asks 25 = .ok (.aload_n 0, 1) := by decide +kernel
theorem dX51_asks_26 : decode cX51_asks 26 = .ok (.iload_n 1, 1) := by decide +kernel
theorem dX51_asks_27 : decode cX51_asks 27 = .ok (.iload_n 3, 1) := by decide +kernel
theorem dX51_asks_28 : decode cX51_asks 28 = .ok (.invokevirtual 71, 3) := by decide +kernel
theorem dX51_asks_31 : decode cX51_asks 31 = .ok (.ifCond .eq 7, 3) := by decide +kernel
theorem dX51_asks_34 : decode cX51_asks 34 = .ok (.iconst 1, 1) := by decide +kernel
theorem dX51_asks_35 : decode cX51_asks 35 = .ok (.goto 4, 3) := by decide +kernel
theorem dX51_asks_38 : decode cX51_asks 38 = .ok (.iconst 0, 1) := by decide +kernel
theorem dX51_asks_39 : decode cX51_asks 39 = .ok (.iadd, 1) := by decide +kernel
theorem dX51_asks_40 : decode cX51_asks 40 = .ok (.istore_n 2, 1) := by decide +kernel
theorem dX51_asks_41 : decode cX51_asks 41 = .ok (.iinc 3 1, 3) := by decide +kernel
theorem dX51_asks_44 : decode cX51_asks 44 = .ok (.goto (-27), 3) := by decide +kernel
theorem dX51_asks_47 : decode cX51_asks 47 = .ok (.iload_n 2, 1) := by decide +kernel
theorem dX51_asks_48 : decode cX51_asks 48 = .ok (.ireturn, 1) := by decide +kernel
abbrev cX51_isHeld : ByteArray := prog_87_method_15_code
def yX51_isHeld : MethodName := ⟨RX51, "isHeld", "(II)Z"⟩
theorem dX51_isHeld_0 : decode cX51_isHeld 0 = .ok (.aload_n 0, 1) := by decide +kernel
theorem dX51_isHeld_1 : decode cX51_isHeld 1 = .ok (.iload_n 2, 1) := by decide +kernel
theorem dX51_isHeld_2 : decode cX51_isHeld 2 = .ok (.iload_n 1, 1) := by decide +kernel
theorem dX51_isHeld_3 : decode cX51_isHeld 3 = .ok (.iconst 1, 1) := by decide +kernel
theorem dX51_isHeld_4 : decode cX51_isHeld 4 = .ok (.iadd, 1) := by decide +kernel
theorem dX51_isHeld_5 : decode cX51_isHeld 5 = .ok (.invokevirtual 60, 3) := by decide +kernel
theorem dX51_isHeld_8 : decode cX51_isHeld 8 = .ok (.aload_n 0, 1) := by decide +kernel
theorem dX51_isHeld_9 : decode cX51_isHeld 9 = .ok (.getfield 35, 3) := by decide +kernel
theorem dX51_isHeld_12 : decode cX51_isHeld 12 = .ok (.iload_n 1, 1) := by decide +kernel
theorem dX51_isHeld_13 : decode cX51_isHeld 13 = .ok (.baload, 1) := by decide +kernel
theorem dX51_isHeld_14 : decode cX51_isHeld 14 = .ok (.ireturn, 1) := by decide +kernel
abbrev cX51_ask : ByteArray := prog_87_method_17_code
def yX51_ask : MethodName := ⟨RX51, "ask", "(II)I"⟩
theorem dX51_ask_0 : decode cX51_ask 0 = .ok (.iload_n 1, 1) := by decide +kernel
theorem dX51_ask_1 : decode cX51_ask 1 = .ok (.aload_n 0, 1) := by decide +kernel
theorem dX51_ask_2 : decode cX51_ask 2 = .ok (.getfield 42, 3) := by decide +kernel
theorem dX51_ask_5 : decode cX51_ask 5 = .ok (.invokestatic 38, 3) := by decide +kernel
theorem dX51_ask_8 : decode cX51_ask 8 = .ok (.ifCond .ne 5, 3) := by decide +kernel
theorem dX51_ask_11 : decode cX51_ask 11 = .ok (.iconst (-1), 1) := by decide +kernel
theorem dX51_ask_12 : decode cX51_ask 12 = .ok (.ireturn, 1) := by decide +kernel
theorem dX51_ask_13 : decode cX51_ask 13 = .ok (.iload_n 2, 1) := by decide +kernel
theorem dX51_ask_14 : decode cX51_ask 14 = .ok (.istore_n 3, 1) := by decide +kernel
theorem dX51_ask_15 : decode cX51_ask 15 = .ok (.iconst 0, 1) := by decide +kernel
theorem dX51_ask_16 : decode cX51_ask 16 = .ok (.istore 4, 2) := by decide +kernel
theorem dX51_ask_18 : decode cX51_ask 18 = .ok (.iload 4, 2) := by decide +kernel
theorem dX51_ask_20 : decode cX51_ask 20 = .ok (.sipush 6144, 3) := by decide +kernel
theorem dX51_ask_23 : decode cX51_ask 23 = .ok (.if_icmp .ge 36, 3) := by decide +kernel
theorem dX51_ask_26 : decode cX51_ask 26 = .ok (.iload_n 2, 1) := by decide +kernel
theorem dX51_ask_27 : decode cX51_ask 27 = .ok (.ifCond .lt 32, 3) := by decide +kernel
theorem dX51_ask_30 : decode cX51_ask 30 = .ok (.aload_n 0, 1) := by decide +kernel
theorem dX51_ask_31 : decode cX51_ask 31 = .ok (.iload_n 1, 1) := by decide +kernel
theorem dX51_ask_32 : decode cX51_ask 32 = .ok (.iload 4, 2) := by decide +kernel
theorem dX51_ask_34 : decode cX51_ask 34 = .ok (.invokevirtual 71, 3) := by decide +kernel
theorem dX51_ask_37 : decode cX51_ask 37 = .ok (.ifCond .ne 6, 3) := by decide +kernel
theorem dX51_ask_40 : decode cX51_ask 40 = .ok (.goto 13, 3) := by decide +kernel
theorem dX51_ask_43 : decode cX51_ask 43 = .ok (.iload_n 3, 1) := by decide +kernel
theorem dX51_ask_44 : decode cX51_ask 44 = .ok (.ifCond .ne 6, 3) := by decide +kernel
theorem dX51_ask_47 : decode cX51_ask 47 = .ok (.iload 4, 2) := by decide +kernel
theorem dX51_ask_49 : decode cX51_ask 49 = .ok (.ireturn, 1) := by decide +kernel
theorem dX51_ask_50 : decode cX51_ask 50 = .ok (.iinc 3 (-1), 3) := by decide +kernel
theorem dX51_ask_53 : decode cX51_ask 53 = .ok (.iinc 4 1, 3) := by decide +kernel
theorem dX51_ask_56 : decode cX51_ask 56 = .ok (.goto (-38), 3) := by decide +kernel
theorem dX51_ask_59 : decode cX51_ask 59 = .ok (.bipush (-2), 2) := by decide +kernel
theorem dX51_ask_61 : decode cX51_ask 61 = .ok (.ireturn, 1) := by decide +kernel
abbrev cX51_within : ByteArray := prog_87_method_18_code
def yX51_within : MethodName := ⟨RX51, "within", "(II)I"⟩
theorem dX51_within_0 : decode cX51_within 0 = .ok (.iload_n 1, 1) := by decide +kernel
theorem dX51_within_1 : decode cX51_within 1 = .ok (.aload_n 0, 1) := by decide +kernel
theorem dX51_within_2 : decode cX51_within 2 = .ok (.getfield 42, 3) := by decide +kernel
theorem dX51_within_5 : decode cX51_within 5 = .ok (.invokestatic 38, 3) := by decide +kernel
theorem dX51_within_8 : decode cX51_within 8 = .ok (.ifCond .eq 14, 3) := by decide +kernel
theorem dX51_within_11 : decode cX51_within 11 = .ok (.iload_n 2, 1) := by decide +kernel
theorem dX51_within_12 : decode cX51_within 12 = .ok (.aload_n 0, 1) := by decide +kernel
theorem dX51_within_13 : decode cX51_within 13 = .ok (.getfield 42, 3) := by decide +kernel
theorem dX51_within_16 : decode cX51_within 16 = .ok (.invokestatic 38, 3) := by decide +kernel
theorem dX51_within_19 : decode cX51_within 19 = .ok (.ifCond .ne 5, 3) := by decide +kernel
theorem dX51_within_22 : decode cX51_within 22 = .ok (.iconst (-1), 1) := by decide +kernel
theorem dX51_within_23 : decode cX51_within 23 = .ok (.ireturn, 1) := by decide +kernel
theorem dX51_within_24 : decode cX51_within 24 = .ok (.iconst 0, 1) := by decide +kernel
theorem dX51_within_25 : decode cX51_within 25 = .ok (.istore_n 3, 1) := by decide +kernel
theorem dX51_within_26 : decode cX51_within 26 = .ok (.iload_n 3, 1) := by decide +kernel
theorem dX51_within_27 : decode cX51_within 27 = .ok (.sipush 6144, 3) := by decide +kernel
theorem dX51_within_30 : decode cX51_within 30 = .ok (.if_icmp .ge 38, 3) := by decide +kernel
theorem dX51_within_33 : decode cX51_within 33 = .ok (.aload_n 0, 1) := by decide +kernel
theorem dX51_within_34 : decode cX51_within 34 = .ok (.iload_n 3, 1) := by decide +kernel
theorem dX51_within_35 : decode cX51_within 35 = .ok (.aload_n 0, 1) := by decide +kernel
theorem dX51_within_36 : decode cX51_within 36 = .ok (.getfield 42, 3) := by decide +kernel
theorem dX51_within_39 : decode cX51_within 39 = .ok (.invokevirtual 60, 3) := by decide +kernel
theorem dX51_within_42 : decode cX51_within 42 = .ok (.aload_n 0, 1) := by decide +kernel
theorem dX51_within_43 : decode cX51_within 43 = .ok (.getfield 35, 3) := by decide +kernel
theorem dX51_within_46 : decode cX51_within 46 = .ok (.iload_n 1, 1) := by decide +kernel
theorem dX51_within_47 : decode cX51_within 47 = .ok (.baload, 1) := by decide +kernel
theorem dX51_within_48 : decode cX51_within 48 = .ok (.ifCond .eq 14, 3) := by decide +kernel
theorem dX51_within_51 : decode cX51_within 51 = .ok (.aload_n 0, 1) := by decide +kernel
theorem dX51_within_52 : decode cX51_within 52 = .ok (.getfield 35, 3) := by decide +kernel
theorem dX51_within_55 : decode cX51_within 55 = .ok (.iload_n 2, 1) := by decide +kernel
theorem dX51_within_56 : decode cX51_within 56 = .ok (.baload, 1) := by decide +kernel
theorem dX51_within_57 : decode cX51_within 57 = .ok (.ifCond .ne 5, 3) := by decide +kernel
theorem dX51_within_60 : decode cX51_within 60 = .ok (.iconst 0, 1) := by decide +kernel
theorem dX51_within_61 : decode cX51_within 61 = .ok (.ireturn, 1) := by decide +kernel
theorem dX51_within_62 : decode cX51_within 62 = .ok (.iinc 3 1, 3) := by decide +kernel
theorem dX51_within_65 : decode cX51_within 65 = .ok (.goto (-39), 3) := by decide +kernel
theorem dX51_within_68 : decode cX51_within 68 = .ok (.iconst 1, 1) := by decide +kernel
theorem dX51_within_69 : decode cX51_within 69 = .ok (.ireturn, 1) := by decide +kernel
abbrev cX51_decides : ByteArray := prog_87_method_19_code
def yX51_decides : MethodName := ⟨RX51, "decides", "(I)I"⟩
theorem dX51_decides_0 : decode cX51_decides 0 = .ok (.iload_n 1, 1) := by decide +kernel
theorem dX51_decides_1 : decode cX51_decides 1 = .ok (.aload_n 0, 1) := by decide +kernel
theorem dX51_decides_2 : decode cX51_decides 2 = .ok (.getfield 50, 3) := by decide +kernel
theorem dX51_decides_5 : decode cX51_decides 5 = .ok (.invokestatic 38, 3) := by decide +kernel
theorem dX51_decides_8 : decode cX51_decides 8 = .ok (.ifCond .ne 5, 3) := by decide +kernel
theorem dX51_decides_11 : decode cX51_decides 11 = .ok (.iconst (-1), 1) := by decide +kernel
theorem dX51_decides_12 : decode cX51_decides 12 = .ok (.ireturn, 1) := by decide +kernel
theorem dX51_decides_13 : decode cX51_decides 13 = .ok (.iconst 0, 1) := by decide +kernel
theorem dX51_decides_14 : decode cX51_decides 14 = .ok (.istore_n 2, 1) := by decide +kernel
theorem dX51_decides_15 : decode cX51_decides 15 = .ok (.iconst 0, 1) := by decide +kernel
theorem dX51_decides_16 : decode cX51_decides 16 = .ok (.istore_n 3, 1) := by decide +kernel
theorem dX51_decides_17 : decode cX51_decides 17 = .ok (.iload_n 3, 1) := by decide +kernel
theorem dX51_decides_18 : decode cX51_decides 18 = .ok (.sipush 6144, 3) := by decide +kernel
theorem dX51_decides_21 : decode cX51_decides 21 = .ok (.if_icmp .ge 27, 3) := by decide +kernel
theorem dX51_decides_24 : decode cX51_decides 24 = .ok (.iload_n 2, 1) := by decide +kernel
theorem dX51_decides_25 : decode cX51_decides 25 = .ok (.aload_n 0, 1) := by decide +kernel
theorem dX51_decides_26 : decode cX51_decides 26 = .ok (.iload_n 3, 1) := by decide +kernel
theorem dX51_decides_27 : decode cX51_decides 27 = .ok (.iconst (-1), 1) := by decide +kernel
theorem dX51_decides_28 : decode cX51_decides 28 = .ok (.invokevirtual 67, 3) := by decide +kernel
theorem dX51_decides_31 : decode cX51_decides 31 = .ok (.iload_n 1, 1) := by decide +kernel
theorem dX51_decides_32 : decode cX51_decides 32 = .ok (.if_icmp .ne 7, 3) := by decide +kernel
theorem dX51_decides_35 : decode cX51_decides 35 = .ok (.iconst 1, 1) := by decide +kernel
theorem dX51_decides_36 : decode cX51_decides 36 = .ok (.goto 4, 3) := by decide +kernel
theorem dX51_decides_39 : decode cX51_decides 39 = .ok (.iconst 0, 1) := by decide +kernel
theorem dX51_decides_40 : decode cX51_decides 40 = .ok (.iadd, 1) := by decide +kernel
theorem dX51_decides_41 : decode cX51_decides 41 = .ok (.istore_n 2, 1) := by decide +kernel
theorem dX51_decides_42 : decode cX51_decides 42 = .ok (.iinc 3 1, 3) := by decide +kernel
theorem dX51_decides_45 : decode cX51_decides 45 = .ok (.goto (-28), 3) := by decide +kernel
theorem dX51_decides_48 : decode cX51_decides 48 = .ok (.iload_n 2, 1) := by decide +kernel
theorem dX51_decides_49 : decode cX51_decides 49 = .ok (.ireturn, 1) := by decide +kernel
abbrev cX51_sees : ByteArray := prog_87_method_20_code
def yX51_sees : MethodName := ⟨RX51, "sees", "(II)I"⟩
theorem dX51_sees_0 : decode cX51_sees 0 = .ok (.iload_n 1, 1) := by decide +kernel
theorem dX51_sees_1 : decode cX51_sees 1 = .ok (.bipush 8, 2) := by decide +kernel
theorem dX51_sees_3 : decode cX51_sees 3 = .ok (.invokestatic 38, 3) := by decide +kernel
theorem dX51_sees_6 : decode cX51_sees 6 = .ok (.ifCond .eq 12, 3) := by decide +kernel
theorem dX51_sees_9 : decode cX51_sees 9 = .ok (.iload_n 2, 1) := by decide +kernel
theorem dX51_sees_10 : decode cX51_sees 10 = .ok (.bipush 8, 2) := by decide +kernel
theorem dX51_sees_12 : decode cX51_sees 12 = .ok (.invokestatic 38, 3) := by decide +kernel
theorem dX51_sees_15 : decode cX51_sees 15 = .ok (.ifCond .ne 5, 3) := by decide +kernel
theorem dX51_sees_18 : decode cX51_sees 18 = .ok (.iconst (-1), 1) := by decide +kernel
theorem dX51_sees_19 : decode cX51_sees 19 = .ok (.ireturn, 1) := by decide +kernel
theorem dX51_sees_20 : decode cX51_sees 20 = .ok (.iconst 0, 1) := by decide +kernel
theorem dX51_sees_21 : decode cX51_sees 21 = .ok (.istore_n 3, 1) := by decide +kernel
theorem dX51_sees_22 : decode cX51_sees 22 = .ok (.iconst 0, 1) := by decide +kernel
theorem dX51_sees_23 : decode cX51_sees 23 = .ok (.istore 4, 2) := by decide +kernel
theorem dX51_sees_25 : decode cX51_sees 25 = .ok (.iload 4, 2) := by decide +kernel
theorem dX51_sees_27 : decode cX51_sees 27 = .ok (.sipush 6144, 3) := by decide +kernel
theorem dX51_sees_30 : decode cX51_sees 30 = .ok (.if_icmp .ge 45, 3) := by decide +kernel
theorem dX51_sees_33 : decode cX51_sees 33 = .ok (.iload_n 3, 1) := by decide +kernel
theorem dX51_sees_34 : decode cX51_sees 34 = .ok (.iload 4, 2) := by decide +kernel
theorem dX51_sees_36 : decode cX51_sees 36 = .ok (.invokestatic 53, 3) := by decide +kernel
theorem dX51_sees_39 : decode cX51_sees 39 = .ok (.iload_n 1, 1) := by decide +kernel
theorem dX51_sees_40 : decode cX51_sees 40 = .ok (.if_icmp .ne 26, 3) := by decide +kernel
theorem dX51_sees_43 : decode cX51_sees 43 = .ok (.iload 4, 2) := by decide +kernel
theorem dX51_sees_45 : decode cX51_sees 45 = .ok (.invokestatic 57, 3) := by decide +kernel
theorem dX51_sees_48 : decode cX51_sees 48 = .ok (.iload_n 2, 1) := by decide +kernel
theorem dX51_sees_49 : decode cX51_sees 49 = .ok (.if_icmp .ne 17, 3) := by decide +kernel
theorem dX51_sees_52 : decode cX51_sees 52 = .ok (.aload_n 0, 1) := by decide +kernel
theorem dX51_sees_53 : decode cX51_sees 53 = .ok (.iload 4, 2) := by decide +kernel
theorem dX51_sees_55 : decode cX51_sees 55 = .ok (.iconst (-1), 1) := by decide +kernel
theorem dX51_sees_56 : decode cX51_sees 56 = .ok (.invokevirtual 74, 3) := by decide +kernel
theorem dX51_sees_59 : decode cX51_sees 59 = .ok (.ifCond .eq 7, 3) := by decide +kernel
theorem dX51_sees_62 : decode cX51_sees 62 = .ok (.iconst 1, 1) := by decide +kernel
theorem dX51_sees_63 : decode cX51_sees 63 = .ok (.goto 4, 3) := by decide +kernel
theorem dX51_sees_66 : decode cX51_sees 66 = .ok (.iconst 0, 1) := by decide +kernel
theorem dX51_sees_67 : decode cX51_sees 67 = .ok (.iadd, 1) := by decide +kernel
theorem dX51_sees_68 : decode cX51_sees 68 = .ok (.istore_n 3, 1) := by decide +kernel
theorem dX51_sees_69 : decode cX51_sees 69 = .ok (.iinc 4 1, 3) := by decide +kernel
theorem dX51_sees_72 : decode cX51_sees 72 = .ok (.goto (-47), 3) := by decide +kernel
theorem dX51_sees_75 : decode cX51_sees 75 = .ok (.iload_n 3, 1) := by decide +kernel
theorem dX51_sees_76 : decode cX51_sees 76 = .ok (.ireturn, 1) := by decide +kernel
abbrev cX51_isAllowed : ByteArray := prog_87_method_13_code
def yX51_isAllowed : MethodName := ⟨RX51, "isAllowed", "(II)Z"⟩
theorem dX51_isAllowed_0 : decode cX51_isAllowed 0 = .ok (.aload_n 0, 1) := by decide +kernel
theorem dX51_isAllowed_1 : decode cX51_isAllowed 1 = .ok (.iload_n 1, 1) := by decide +kernel
theorem dX51_isAllowed_2 : decode cX51_isAllowed 2 = .ok (.iload_n 2, 1) := by decide +kernel
theorem dX51_isAllowed_3 : decode cX51_isAllowed 3 = .ok (.invokevirtual 67, 3) := by decide +kernel
theorem dX51_isAllowed_6 : decode cX51_isAllowed 6 = .ok (.istore_n 3, 1) := by decide +kernel
theorem dX51_isAllowed_7 : decode cX51_isAllowed 7 = .ok (.iload_n 3, 1) := by decide +kernel
theorem dX51_isAllowed_8 : decode cX51_isAllowed 8 = .ok (.ifCond .lt 16, 3) := by decide +kernel
theorem dX51_isAllowed_11 : decode cX51_isAllowed 11 = .ok (.aload_n 0, 1) := by decide +kernel
theorem dX51_isAllowed_12 : decode cX51_isAllowed 12 = .ok (.getfield 28, 3) := by decide +kernel
theorem dX51_isAllowed_15 : decode cX51_isAllowed 15 = .ok (.iload_n 3, 1) := by decide +kernel
theorem dX51_isAllowed_16 : decode cX51_isAllowed 16 = .ok (.baload, 1) := by decide +kernel
theorem dX51_isAllowed_17 : decode cX51_isAllowed 17 = .ok (.ifCond .ne 7, 3) := by decide +kernel
theorem dX51_isAllowed_20 : decode cX51_isAllowed 20 = .ok (.iconst 1, 1) := by decide +kernel
theorem dX51_isAllowed_21 : decode cX51_isAllowed 21 = .ok (.goto 4, 3) := by decide +kernel
theorem dX51_isAllowed_24 : decode cX51_isAllowed 24 = .ok (.iconst 0, 1) := by decide +kernel
theorem dX51_isAllowed_25 : decode cX51_isAllowed 25 = .ok (.ireturn, 1) := by decide +kernel
abbrev cX51_matters : ByteArray := prog_87_method_21_code
def yX51_matters : MethodName := ⟨RX51, "matters", "(I)I"⟩
theorem dX51_matters_0 : decode cX51_matters 0 = .ok (.iload_n 1, 1) := by decide +kernel
theorem dX51_matters_1 : decode cX51_matters 1 = .ok (.aload_n 0, 1) := by decide +kernel
theorem dX51_matters_2 : decode cX51_matters 2 = .ok (.getfield 50, 3) := by decide +kernel
theorem dX51_matters_5 : decode cX51_matters 5 = .ok (.invokestatic 38, 3) := by decide +kernel
theorem dX51_matters_8 : decode cX51_matters 8 = .ok (.ifCond .ne 5, 3) := by decide +kernel
theorem dX51_matters_11 : decode cX51_matters 11 = .ok (.iconst (-1), 1) := by decide +kernel
theorem dX51_matters_12 : decode cX51_matters 12 = .ok (.ireturn, 1) := by decide +kernel
theorem dX51_matters_13 : decode cX51_matters 13 = .ok (.iconst 0, 1) := by decide +kernel
theorem dX51_matters_14 : decode cX51_matters 14 = .ok (.istore_n 2, 1) := by decide +kernel
theorem dX51_matters_15 : decode cX51_matters 15 = .ok (.iconst 0, 1) := by decide +kernel
theorem dX51_matters_16 : decode cX51_matters 16 = .ok (.istore_n 3, 1) := by decide +kernel
theorem dX51_matters_17 : decode cX51_matters 17 = .ok (.iload_n 3, 1) := by decide +kernel
theorem dX51_matters_18 : decode cX51_matters 18 = .ok (.sipush 6144, 3) := by decide +kernel
theorem dX51_matters_21 : decode cX51_matters 21 = .ok (.if_icmp .ge 32, 3) := by decide +kernel
theorem dX51_matters_24 : decode cX51_matters 24 = .ok (.iload_n 2, 1) := by decide +kernel
theorem dX51_matters_25 : decode cX51_matters 25 = .ok (.aload_n 0, 1) := by decide +kernel
theorem dX51_matters_26 : decode cX51_matters 26 = .ok (.iload_n 3, 1) := by decide +kernel
theorem dX51_matters_27 : decode cX51_matters 27 = .ok (.iconst (-1), 1) := by decide +kernel
theorem dX51_matters_28 : decode cX51_matters 28 = .ok (.invokevirtual 74, 3) := by decide +kernel
theorem dX51_matters_31 : decode cX51_matters 31 = .ok (.aload_n 0, 1) := by decide +kernel
theorem dX51_matters_32 : decode cX51_matters 32 = .ok (.iload_n 3, 1) := by decide +kernel
theorem dX51_matters_33 : decode cX51_matters 33 = .ok (.iload_n 1, 1) := by decide +kernel
theorem dX51_matters_34 : decode cX51_matters 34 = .ok (.invokevirtual 74, 3) := by decide +kernel
theorem dX51_matters_37 : decode cX51_matters 37 = .ok (.if_icmp .eq 7, 3) := by decide +kernel
theorem dX51_matters_40 : decode cX51_matters 40 = .ok (.iconst 1, 1) := by decide +kernel
theorem dX51_matters_41 : decode cX51_matters 41 = .ok (.goto 4, 3) := by decide +kernel
theorem dX51_matters_44 : decode cX51_matters 44 = .ok (.iconst 0, 1) := by decide +kernel
theorem dX51_matters_45 : decode cX51_matters 45 = .ok (.iadd, 1) := by decide +kernel
theorem dX51_matters_46 : decode cX51_matters 46 = .ok (.istore_n 2, 1) := by decide +kernel
theorem dX51_matters_47 : decode cX51_matters 47 = .ok (.iinc 3 1, 3) := by decide +kernel
theorem dX51_matters_50 : decode cX51_matters 50 = .ok (.goto (-33), 3) := by decide +kernel
theorem dX51_matters_53 : decode cX51_matters 53 = .ok (.iload_n 2, 1) := by decide +kernel
theorem dX51_matters_54 : decode cX51_matters 54 = .ok (.ireturn, 1) := by decide +kernel
abbrev cX51_idle : ByteArray := prog_87_method_23_code
def yX51_idle : MethodName := ⟨RX51, "idle", "(ZI)I"⟩
theorem dX51_idle_0 : decode cX51_idle 0 = .ok (.iload_n 2, 1) := by decide +kernel
theorem dX51_idle_1 : decode cX51_idle 1 = .ok (.aload_n 0, 1) := by decide +kernel
theorem dX51_idle_2 : decode cX51_idle 2 = .ok (.getfield 42, 3) := by decide +kernel
theorem dX51_idle_5 : decode cX51_idle 5 = .ok (.invokestatic 38, 3) := by decide +kernel
theorem dX51_idle_8 : decode cX51_idle 8 = .ok (.ifCond .ne 5, 3) := by decide +kernel
theorem dX51_idle_11 : decode cX51_idle 11 = .ok (.iconst (-1), 1) := by decide +kernel
theorem dX51_idle_12 : decode cX51_idle 12 = .ok (.ireturn, 1) := by decide +kernel
theorem dX51_idle_13 : decode cX51_idle 13 = .ok (.iconst 0, 1) := by decide +kernel
theorem dX51_idle_14 : decode cX51_idle 14 = .ok (.istore_n 3, 1) := by decide +kernel
theorem dX51_idle_15 : decode cX51_idle 15 = .ok (.iload_n 3, 1) := by decide +kernel
theorem dX51_idle_16 : decode cX51_idle 16 = .ok (.bipush 10, 2) := by decide +kernel
theorem dX51_idle_18 : decode cX51_idle 18 = .ok (.if_icmp .ge 52, 3) := by decide +kernel
theorem dX51_idle_21 : decode cX51_idle 21 = .ok (.iconst 0, 1) := by decide +kernel
theorem dX51_idle_22 : decode cX51_idle 22 = .ok (.istore 4, 2) := by decide +kernel
theorem dX51_idle_24 : decode cX51_idle 24 = .ok (.iconst 0, 1) := by decide +kernel
theorem dX51_idle_25 : decode cX51_idle 25 = .ok (.istore 5, 2) := by decide +kernel
theorem dX51_idle_27 : decode cX51_idle 27 = .ok (.iload 5, 2) := by decide +kernel
theorem dX51_idle_29 : decode cX51_idle 29 = .ok (.sipush 6144, 3) := by decide +kernel
theorem dX51_idle_32 : decode cX51_idle 32 = .ok (.if_icmp .ge 25, 3) := by decide +kernel
theorem dX51_idle_35 : decode cX51_idle 35 = .ok (.iload 4, 2) := by decide +kernel
theorem dX51_idle_37 : decode cX51_idle 37 = .ok (.ifCond .ne 20, 3) := by decide +kernel
theorem dX51_idle_40 : decode cX51_idle 40 = .ok (.aload_n 0, 1) := by decide +kernel
theorem dX51_idle_41 : decode cX51_idle 41 = .ok (.iload 5, 2) := by decide +kernel
theorem dX51_idle_43 : decode cX51_idle 43 = .ok (.iload_n 3, 1) := by decide +kernel
theorem dX51_idle_44 : decode cX51_idle 44 = .ok (.iload_n 1, 1) := by decide +kernel
theorem dX51_idle_45 : decode cX51_idle 45 = .ok (.iload_n 2, 1) := by decide +kernel
theorem dX51_idle_46 : decode cX51_idle 46 = .ok (.invokevirtual 77, 3) := by decide +kernel
theorem dX51_idle_49 : decode cX51_idle 49 = .ok (.istore 4, 2) := by decide +kernel
theorem dX51_idle_51 : decode cX51_idle 51 = .ok (.iinc 5 1, 3) := by decide +kernel
theorem dX51_idle_54 : decode cX51_idle 54 = .ok (.goto (-27), 3) := by decide +kernel
theorem dX51_idle_57 : decode cX51_idle 57 = .ok (.iload 4, 2) := by decide +kernel
theorem dX51_idle_59 : decode cX51_idle 59 = .ok (.ifCond .ne 5, 3) := by decide +kernel
theorem dX51_idle_62 : decode cX51_idle 62 = .ok (.iload_n 3, 1) := by decide +kernel
theorem dX51_idle_63 : decode cX51_idle 63 = .ok (.ireturn, 1) := by decide +kernel
theorem dX51_idle_64 : decode cX51_idle 64 = .ok (.iinc 3 1, 3) := by decide +kernel
theorem dX51_idle_67 : decode cX51_idle 67 = .ok (.goto (-52), 3) := by decide +kernel
theorem dX51_idle_70 : decode cX51_idle 70 = .ok (.bipush 10, 2) := by decide +kernel
theorem dX51_idle_72 : decode cX51_idle 72 = .ok (.ireturn, 1) := by decide +kernel
abbrev cX51_wouldDecide : ByteArray := prog_87_method_22_code
def yX51_wouldDecide : MethodName := ⟨RX51, "wouldDecide", "(IIZI)Z"⟩
theorem dX51_wouldDecide_0 : decode cX51_wouldDecide 0 = .ok (.aload_n 0, 1) := by decide +kernel
theorem dX51_wouldDecide_1 : decode cX51_wouldDecide 1 = .ok (.iload_n 1, 1) := by decide +kernel
theorem dX51_wouldDecide_2 : decode cX51_wouldDecide 2 = .ok (.iconst (-1), 1) := by decide +kernel
theorem dX51_wouldDecide_3 : decode cX51_wouldDecide 3 = .ok (.invokevirtual 67, 3) := by decide +kernel
theorem dX51_wouldDecide_6 : decode cX51_wouldDecide 6 = .ok (.istore 5, 2) := by decide +kernel
theorem dX51_wouldDecide_8 : decode cX51_wouldDecide 8 = .ok (.aload_n 0, 1) := by decide +kernel
theorem dX51_wouldDecide_9 : decode cX51_wouldDecide 9 = .ok (.getfield 35, 3) := by decide +kernel
theorem dX51_wouldDecide_12 : decode cX51_wouldDecide 12 = .ok (.iload 4, 2) := by decide +kernel
theorem dX51_wouldDecide_14 : decode cX51_wouldDecide 14 = .ok (.baload, 1) := by decide +kernel
theorem dX51_wouldDecide_15 : decode cX51_wouldDecide 15 = .ok (.ifCond .eq 48, 3) := by decide +kernel
theorem dX51_wouldDecide_18 : decode cX51_wouldDecide 18 = .ok (.iload 5, 2) := by decide +kernel
theorem dX51_wouldDecide_20 : decode cX51_wouldDecide 20 = .ok (.ifCond .lt 39, 3) := by decide +kernel
theorem dX51_wouldDecide_23 : decode cX51_wouldDecide 23 = .ok (.iload_n 2, 1) := by decide +kernel
theorem dX51_wouldDecide_24 : decode cX51_wouldDecide 24 = .ok (.aload_n 0, 1) := by decide +kernel
theorem dX51_wouldDecide_25 : decode cX51_wouldDecide 25 = .ok (.getfield 25, 3) := by decide +kernel
theorem dX51_wouldDecide_28 : decode cX51_wouldDecide 28 = .ok (.iload 5, 2) := by decide +kernel
theorem dX51_wouldDecide_30 : decode cX51_wouldDecide 30 = .ok (.iaload, 1) := by decide +kernel
theorem dX51_wouldDecide_31 : decode cX51_wouldDecide 31 = .ok (.if_icmp .lt 28, 3) := by decide +kernel
theorem dX51_wouldDecide_34 : decode cX51_wouldDecide 34 = .ok (.iload_n 2, 1) := by decide +kernel
theorem dX51_wouldDecide_35 : decode cX51_wouldDecide 35 = .ok (.aload_n 0, 1) := by decide +kernel
theorem dX51_wouldDecide_36 : decode cX51_wouldDecide 36 = .ok (.getfield 25, 3) := by decide +kernel
theorem dX51_wouldDecide_39 : decode cX51_wouldDecide 39 = .ok (.iload 5, 2) := by decide +kernel
theorem dX51_wouldDecide_41 : decode cX51_wouldDecide 41 = .ok (.iaload, 1) := by decide +kernel
theorem dX51_wouldDecide_42 : decode cX51_wouldDecide 42 = .ok (.if_icmp .ne 21, 3) := by decide +kernel
theorem dX51_wouldDecide_45 : decode cX51_wouldDecide 45 = .ok (.iload_n 3, 1) := by decide +kernel
theorem dX51_wouldDecide_46 : decode cX51_wouldDecide 46 = .ok (.ifCond .eq 17, 3) := by decide +kernel
theorem dX51_wouldDecide_49 : decode cX51_wouldDecide 49 = .ok (.aload_n 0, 1) := by decide +kernel
theorem dX51_wouldDecide_50 : decode cX51_wouldDecide 50 = .ok (.getfield 28, 3) := by decide +kernel
theorem dX51_wouldDecide_53 : decode cX51_wouldDecide 53 = .ok (.iload 5, 2) := by decide +kernel
theorem dX51_wouldDecide_55 : decode cX51_wouldDecide 55 = .ok (.baload, 1) := by decide +kernel
theorem dX51_wouldDecide_56 : decode cX51_wouldDecide 56 = .ok (.ifCond .ne 7, 3) := by decide +kernel
theorem dX51_wouldDecide_59 : decode cX51_wouldDecide 59 = .ok (.iconst 1, 1) := by decide +kernel
theorem dX51_wouldDecide_60 : decode cX51_wouldDecide 60 = .ok (.goto 4, 3) := by decide +kernel
theorem dX51_wouldDecide_63 : decode cX51_wouldDecide 63 = .ok (.iconst 0, 1) := by decide +kernel
theorem dX51_wouldDecide_64 : decode cX51_wouldDecide 64 = .ok (.ireturn, 1) := by decide +kernel
abbrev cX51_apart : ByteArray := prog_87_method_24_code
def yX51_apart : MethodName := ⟨RX51, "apart", "(II)I"⟩
theorem dX51_apart_0 : decode cX51_apart 0 = .ok (.iload_n 1, 1) := by decide +kernel
theorem dX51_apart_1 : decode cX51_apart 1 = .ok (.bipush 8, 2) := by decide +kernel
theorem dX51_apart_3 : decode cX51_apart 3 = .ok (.invokestatic 38, 3) := by decide +kernel
theorem dX51_apart_6 : decode cX51_apart 6 = .ok (.ifCond .eq 12, 3) := by decide +kernel
theorem dX51_apart_9 : decode cX51_apart 9 = .ok (.iload_n 2, 1) := by decide +kernel
theorem dX51_apart_10 : decode cX51_apart 10 = .ok (.bipush 8, 2) := by decide +kernel
theorem dX51_apart_12 : decode cX51_apart 12 = .ok (.invokestatic 38, 3) := by decide +kernel
theorem dX51_apart_15 : decode cX51_apart 15 = .ok (.ifCond .ne 5, 3) := by decide +kernel
theorem dX51_apart_18 : decode cX51_apart 18 = .ok (.iconst (-1), 1) := by decide +kernel
theorem dX51_apart_19 : decode cX51_apart 19 = .ok (.ireturn, 1) := by decide +kernel
theorem dX51_apart_20 : decode cX51_apart 20 = .ok (.iconst 0, 1) := by decide +kernel
theorem dX51_apart_21 : decode cX51_apart 21 = .ok (.istore_n 3, 1) := by decide +kernel
theorem dX51_apart_22 : decode cX51_apart 22 = .ok (.iload_n 3, 1) := by decide +kernel
theorem dX51_apart_23 : decode cX51_apart 23 = .ok (.sipush 768, 3) := by decide +kernel
theorem dX51_apart_26 : decode cX51_apart 26 = .ok (.if_icmp .ge 44, 3) := by decide +kernel
theorem dX51_apart_29 : decode cX51_apart 29 = .ok (.aload_n 0, 1) := by decide +kernel
theorem dX51_apart_30 : decode cX51_apart 30 = .ok (.sipush 768, 3) := by decide +kernel
theorem dX51_apart_33 : decode cX51_apart 33 = .ok (.iload_n 1, 1) := by decide +kernel
theorem dX51_apart_34 : decode cX51_apart 34 = .ok (.imul, 1) := by decide +kernel
theorem dX51_apart_35 : decode cX51_apart 35 = .ok (.iload_n 3, 1) := by decide +kernel
theorem dX51_apart_36 : decode cX51_apart 36 = .ok (.iadd, 1) := by decide +kernel
theorem dX51_apart_37 : decode cX51_apart 37 = .ok (.iconst (-1), 1) := by decide +kernel
theorem dX51_apart_38 : decode cX51_apart 38 = .ok (.invokevirtual 74, 3) := by decide +kernel
theorem dX51_apart_41 : decode cX51_apart 41 = .ok (.aload_n 0, 1) := by decide +kernel
theorem dX51_apart_42 : decode cX51_apart 42 = .ok (.sipush 768, 3) := by decide +kernel
theorem dX51_apart_45 : decode cX51_apart 45 = .ok (.iload_n 2, 1) := by decide +kernel
theorem dX51_apart_46 : decode cX51_apart 46 = .ok (.imul, 1) := by decide +kernel
theorem dX51_apart_47 : decode cX51_apart 47 = .ok (.iload_n 3, 1) := by decide +kernel
theorem dX51_apart_48 : decode cX51_apart 48 = .ok (.iadd, 1) := by decide +kernel
theorem dX51_apart_49 : decode cX51_apart 49 = .ok (.iconst (-1), 1) := by decide +kernel
theorem dX51_apart_50 : decode cX51_apart 50 = .ok (.invokevirtual 74, 3) := by decide +kernel
theorem dX51_apart_53 : decode cX51_apart 53 = .ok (.if_icmp .eq 11, 3) := by decide +kernel
theorem dX51_apart_56 : decode cX51_apart 56 = .ok (.sipush 768, 3) := by decide +kernel
theorem dX51_apart_59 : decode cX51_apart 59 = .ok (.iload_n 1, 1) := by decide +kernel
theorem dX51_apart_60 : decode cX51_apart 60 = .ok (.imul, 1) := by decide +kernel
theorem dX51_apart_61 : decode cX51_apart 61 = .ok (.iload_n 3, 1) := by decide +kernel
theorem dX51_apart_62 : decode cX51_apart 62 = .ok (.iadd, 1) := by decide +kernel
theorem dX51_apart_63 : decode cX51_apart 63 = .ok (.ireturn, 1) := by decide +kernel
theorem dX51_apart_64 : decode cX51_apart 64 = .ok (.iinc 3 1, 3) := by decide +kernel
theorem dX51_apart_67 : decode cX51_apart 67 = .ok (.goto (-45), 3) := by decide +kernel
theorem dX51_apart_70 : decode cX51_apart 70 = .ok (.bipush (-2), 2) := by decide +kernel
theorem dX51_apart_72 : decode cX51_apart 72 = .ok (.ireturn, 1) := by decide +kernel
abbrev cX51_allowed : ByteArray := prog_87_method_25_code
def yX51_allowed : MethodName := ⟨RX51, "allowed", "()I"⟩
theorem dX51_allowed_0 : decode cX51_allowed 0 = .ok (.iconst 0, 1) := by decide +kernel
theorem dX51_allowed_1 : decode cX51_allowed 1 = .ok (.istore_n 1, 1) := by decide +kernel
theorem dX51_allowed_2 : decode cX51_allowed 2 = .ok (.iconst 0, 1) := by decide +kernel
theorem dX51_allowed_3 : decode cX51_allowed 3 = .ok (.istore_n 2, 1) := by decide +kernel
theorem dX51_allowed_4 : decode cX51_allowed 4 = .ok (.iload_n 2, 1) := by decide +kernel
theorem dX51_allowed_5 : decode cX51_allowed 5 = .ok (.sipush 6144, 3) := by decide +kernel
theorem dX51_allowed_8 : decode cX51_allowed 8 = .ok (.if_icmp .ge 26, 3) := by decide +kernel
theorem dX51_allowed_11 : decode cX51_allowed 11 = .ok (.iload_n 1, 1) := by decide +kernel
theorem dX51_allowed_12 : decode cX51_allowed 12 = .ok (.aload_n 0, 1) := by decide +kernel
theorem dX51_allowed_13 : decode cX51_allowed 13 = .ok (.iload_n 2, 1) := by decide +kernel
theorem dX51_allowed_14 : decode cX51_allowed 14 = .ok (.iconst (-1), 1) := by decide +kernel
theorem dX51_allowed_15 : decode cX51_allowed 15 = .ok (.invokevirtual 74, 3) := by decide +kernel
theorem dX51_allowed_18 : decode cX51_allowed 18 = .ok (.ifCond .eq 7, 3) := by decide +kernel
theorem dX51_allowed_21 : decode cX51_allowed 21 = .ok (.iconst 1, 1) := by decide +kernel
theorem dX51_allowed_22 : decode cX51_allowed 22 = .ok (.goto 4, 3) := by decide +kernel
theorem dX51_allowed_25 : decode cX51_allowed 25 = .ok (.iconst 0, 1) := by decide +kernel
theorem dX51_allowed_26 : decode cX51_allowed 26 = .ok (.iadd, 1) := by decide +kernel
theorem dX51_allowed_27 : decode cX51_allowed 27 = .ok (.istore_n 1, 1) := by decide +kernel
theorem dX51_allowed_28 : decode cX51_allowed 28 = .ok (.iinc 2 1, 3) := by decide +kernel
theorem dX51_allowed_31 : decode cX51_allowed 31 = .ok (.goto (-27), 3) := by decide +kernel
theorem dX51_allowed_34 : decode cX51_allowed 34 = .ok (.iload_n 1, 1) := by decide +kernel
theorem dX51_allowed_35 : decode cX51_allowed 35 = .ok (.ireturn, 1) := by decide +kernel
abbrev cX51_conditions : ByteArray := prog_87_method_26_code
def yX51_conditions : MethodName := ⟨RX51, "conditions", "()I"⟩
theorem dX51_conditions_0 : decode cX51_conditions 0 = .ok (.aload_n 0, 1) := by decide +kernel
theorem dX51_conditions_1 : decode cX51_conditions 1 = .ok (.getfield 42, 3) := by decide +kernel
theorem dX51_conditions_4 : decode cX51_conditions 4 = .ok (.ireturn, 1) := by decide +kernel
abbrev cX51_rules : ByteArray := prog_87_method_27_code
def yX51_rules : MethodName := ⟨RX51, "rules", "()I"⟩
theorem dX51_rules_0 : decode cX51_rules 0 = .ok (.aload_n 0, 1) := by decide +kernel
theorem dX51_rules_1 : decode cX51_rules 1 = .ok (.getfield 50, 3) := by decide +kernel
theorem dX51_rules_4 : decode cX51_rules 4 = .ok (.ireturn, 1) := by decide +kernel
theorem in_X51 : ∀ w ∈ wsX510, w ∈ lw_all := lw_in wsX510 [6353, 6355, 6357, 6359, 6361, 6363, 6365, 6367, 6369, 6371, 6373] (by decide +kernel) (by decide +kernel)
theorem q546 : (Jvm.Cond.initialized "KnowHouseModel$RightDeskModel") ∈ lw_all := lw_g (lw_at lw_m1 68 rfl) rfl
theorem q6342 : (Jvm.Cond.fieldLink "KnowHouseModel$RightDeskModel" (7 : Nat) "KnowHouseModel$RightDeskModel" "groups" "[I") ∈ lw_all := lw_g (lw_at lw_m25 104 rfl) rfl
theorem q6343 : (Jvm.Cond.fieldLink "KnowHouseModel$RightDeskModel" (13 : Nat) "KnowHouseModel$RightDeskModel" "kinds" "[I") ∈ lw_all := lw_g (lw_at lw_m25 105 rfl) rfl
theorem q6344 : (Jvm.Cond.fieldLink "KnowHouseModel$RightDeskModel" (16 : Nat) "KnowHouseModel$RightDeskModel" "as" "[I") ∈ lw_all := lw_g (lw_at lw_m25 106 rfl) rfl
theorem q6345 : (Jvm.Cond.fieldLink "KnowHouseModel$RightDeskModel" (19 : Nat) "KnowHouseModel$RightDeskModel" "bs" "[I") ∈ lw_all := lw_g (lw_at lw_m25 107 rfl) rfl
theorem q6346 : (Jvm.Cond.fieldLink "KnowHouseModel$RightDeskModel" (22 : Nat) "KnowHouseModel$RightDeskModel" "cs" "[I") ∈ lw_all := lw_g (lw_at lw_m25 108 rfl) rfl
theorem q6347 : (Jvm.Cond.fieldLink "KnowHouseModel$RightDeskModel" (42 : Nat) "KnowHouseModel$RightDeskModel" "conditions" "I") ∈ lw_all := lw_g (lw_at lw_m25 109 rfl) rfl
theorem q6348 : (Jvm.Cond.fieldLink "KnowHouseModel$RightDeskModel" (25 : Nat) "KnowHouseModel$RightDeskModel" "ranks" "[I") ∈ lw_all := lw_g (lw_at lw_m25 110 rfl) rfl
theorem q6349 : (Jvm.Cond.fieldLink "KnowHouseModel$RightDeskModel" (28 : Nat) "KnowHouseModel$RightDeskModel" "denies" "[Z") ∈ lw_all := lw_g (lw_at lw_m25 111 rfl) rfl
theorem q6350 : (Jvm.Cond.fieldLink "KnowHouseModel$RightDeskModel" (32 : Nat) "KnowHouseModel$RightDeskModel" "wants" "[I") ∈ lw_all := lw_g (lw_at lw_m25 112 rfl) rfl
theorem q6351 : (Jvm.Cond.fieldLink "KnowHouseModel$RightDeskModel" (50 : Nat) "KnowHouseModel$RightDeskModel" "rules" "I") ∈ lw_all := lw_g (lw_at lw_m25 113 rfl) rfl
theorem q6352 : (Jvm.Cond.fieldLink "KnowHouseModel$RightDeskModel" (35 : Nat) "KnowHouseModel$RightDeskModel" "holds" "[Z") ∈ lw_all := lw_g (lw_at lw_m25 114 rfl) rfl
theorem q7221 : (Jvm.Cond.methodLink "KnowHouseModel$RightDeskModel" (38 : Nat) ({ cls := "KnowHouseModel$RightDeskModel", name := "in", desc := "(II)Z" } : Jvm.MethodName)) ∈ lw_all := lw_g (lw_at lw_m29 23 rfl) rfl
theorem q7222 : (Jvm.Cond.static ({ cls := "KnowHouseModel$RightDeskModel", name := "in", desc := "(II)Z" } : Jvm.MethodName)) ∈ lw_all := lw_g (lw_at lw_m29 24 rfl) rfl
theorem q7223 : (Jvm.Cond.code ({ cls := "KnowHouseModel$RightDeskModel", name := "in", desc := "(II)Z" } : Jvm.MethodName) prog_87_method_2_code (2 : Nat) (Option.some Jvm.ClassFile.FieldType.boolean)) ∈ lw_all := lw_g (lw_at lw_m29 25 rfl) rfl
theorem q7224 : (Jvm.Cond.methodLink "KnowHouseModel$RightDeskModel" (67 : Nat) ({ cls := "KnowHouseModel$RightDeskModel", name := "decider", desc := "(II)I" } : Jvm.MethodName)) ∈ lw_all := lw_g (lw_at lw_m29 26 rfl) rfl
theorem q7226 : (Jvm.Cond.instanceMethod ({ cls := "KnowHouseModel$RightDeskModel", name := "decider", desc := "(II)I" } : Jvm.MethodName)) ∈ lw_all := lw_g (lw_at lw_m29 28 rfl) rfl
theorem q7227 : (Jvm.Cond.code ({ cls := "KnowHouseModel$RightDeskModel", name := "decider", desc := "(II)I" } : Jvm.MethodName) prog_87_method_12_code (3 : Nat) (Option.some Jvm.ClassFile.FieldType.int)) ∈ lw_all := lw_g (lw_at lw_m29 29 rfl) rfl
theorem q7228 : (Jvm.Cond.methodLink "KnowHouseModel$RightDeskModel" (60 : Nat) ({ cls := "KnowHouseModel$RightDeskModel", name := "look", desc := "(II)V" } : Jvm.MethodName)) ∈ lw_all := lw_g (lw_at lw_m29 30 rfl) rfl
theorem q7230 : (Jvm.Cond.instanceMethod ({ cls := "KnowHouseModel$RightDeskModel", name := "look", desc := "(II)V" } : Jvm.MethodName)) ∈ lw_all := lw_g (lw_at lw_m29 32 rfl) rfl
theorem q7231 : (Jvm.Cond.code ({ cls := "KnowHouseModel$RightDeskModel", name := "look", desc := "(II)V" } : Jvm.MethodName) prog_87_method_10_code (13 : Nat) (Option.none : Option Jvm.ClassFile.FieldType)) ∈ lw_all := lw_g (lw_at lw_m29 33 rfl) rfl
theorem q7232 : (Jvm.Cond.methodLink "KnowHouseModel$RightDeskModel" (53 : Nat) ({ cls := "KnowHouseModel$RightDeskModel", name := "personOf", desc := "(I)I" } : Jvm.MethodName)) ∈ lw_all := lw_g (lw_at lw_m29 34 rfl) rfl
theorem q7233 : (Jvm.Cond.static ({ cls := "KnowHouseModel$RightDeskModel", name := "personOf", desc := "(I)I" } : Jvm.MethodName)) ∈ lw_all := lw_g (lw_at lw_m29 35 rfl) rfl
theorem q7234 : (Jvm.Cond.code ({ cls := "KnowHouseModel$RightDeskModel", name := "personOf", desc := "(I)I" } : Jvm.MethodName) prog_87_method_8_code (1 : Nat) (Option.some Jvm.ClassFile.FieldType.int)) ∈ lw_all := lw_g (lw_at lw_m29 36 rfl) rfl
theorem q7235 : (Jvm.Cond.methodLink "KnowHouseModel$RightDeskModel" (57 : Nat) ({ cls := "KnowHouseModel$RightDeskModel", name := "versionOf", desc := "(I)I" } : Jvm.MethodName)) ∈ lw_all := lw_g (lw_at lw_m29 37 rfl) rfl
theorem q7236 : (Jvm.Cond.static ({ cls := "KnowHouseModel$RightDeskModel", name := "versionOf", desc := "(I)I" } : Jvm.MethodName)) ∈ lw_all := lw_g (lw_at lw_m29 38 rfl) rfl
theorem q7237 : (Jvm.Cond.code ({ cls := "KnowHouseModel$RightDeskModel", name := "versionOf", desc := "(I)I" } : Jvm.MethodName) prog_87_method_9_code (1 : Nat) (Option.some Jvm.ClassFile.FieldType.int)) ∈ lw_all := lw_g (lw_at lw_m29 39 rfl) rfl
theorem q7238 : (Jvm.Cond.methodLink "KnowHouseModel$RightDeskModel" (64 : Nat) ({ cls := "KnowHouseModel$RightDeskModel", name := "decide", desc := "(I)I" } : Jvm.MethodName)) ∈ lw_all := lw_g (lw_at lw_m29 40 rfl) rfl
theorem q7240 : (Jvm.Cond.instanceMethod ({ cls := "KnowHouseModel$RightDeskModel", name := "decide", desc := "(I)I" } : Jvm.MethodName)) ∈ lw_all := lw_g (lw_at lw_m29 42 rfl) rfl
theorem q7241 : (Jvm.Cond.code ({ cls := "KnowHouseModel$RightDeskModel", name := "decide", desc := "(I)I" } : Jvm.MethodName) prog_87_method_11_code (5 : Nat) (Option.some Jvm.ClassFile.FieldType.int)) ∈ lw_all := lw_g (lw_at lw_m29 43 rfl) rfl
theorem q8469 : (Jvm.Cond.methodLink "KnowHouseModel$RightDeskModel" (46 : Nat) ({ cls := "KnowHouseModel$RightDeskModel", name := "fits", desc := "(IIII)Z" } : Jvm.MethodName)) ∈ lw_all := lw_g (lw_at lw_m34 71 rfl) rfl
theorem q8471 : (Jvm.Cond.instanceMethod ({ cls := "KnowHouseModel$RightDeskModel", name := "fits", desc := "(IIII)Z" } : Jvm.MethodName)) ∈ lw_all := lw_g (lw_at lw_m34 73 rfl) rfl
theorem q8472 : (Jvm.Cond.code ({ cls := "KnowHouseModel$RightDeskModel", name := "fits", desc := "(IIII)Z" } : Jvm.MethodName) prog_87_method_4_code (5 : Nat) (Option.some Jvm.ClassFile.FieldType.boolean)) ∈ lw_all := lw_g (lw_at lw_m34 74 rfl) rfl
theorem q8485 : (Jvm.Cond.methodLink "KnowHouseModel$RightDeskModel" (71 : Nat) ({ cls := "KnowHouseModel$RightDeskModel", name := "isHeld", desc := "(II)Z" } : Jvm.MethodName)) ∈ lw_all := lw_g (lw_at lw_m34 87 rfl) rfl
theorem q8487 : (Jvm.Cond.instanceMethod ({ cls := "KnowHouseModel$RightDeskModel", name := "isHeld", desc := "(II)Z" } : Jvm.MethodName)) ∈ lw_all := lw_g (lw_at lw_m34 89 rfl) rfl
theorem q8488 : (Jvm.Cond.code ({ cls := "KnowHouseModel$RightDeskModel", name := "isHeld", desc := "(II)Z" } : Jvm.MethodName) prog_87_method_15_code (3 : Nat) (Option.some Jvm.ClassFile.FieldType.boolean)) ∈ lw_all := lw_g (lw_at lw_m34 90 rfl) rfl
theorem q8505 : (Jvm.Cond.methodLink "KnowHouseModel$RightDeskModel" (74 : Nat) ({ cls := "KnowHouseModel$RightDeskModel", name := "isAllowed", desc := "(II)Z" } : Jvm.MethodName)) ∈ lw_all := lw_g (lw_at lw_m34 107 rfl) rfl
theorem q8507 : (Jvm.Cond.instanceMethod ({ cls := "KnowHouseModel$RightDeskModel", name := "isAllowed", desc := "(II)Z" } : Jvm.MethodName)) ∈ lw_all := lw_g (lw_at lw_m34 109 rfl) rfl
theorem q8508 : (Jvm.Cond.code ({ cls := "KnowHouseModel$RightDeskModel", name := "isAllowed", desc := "(II)Z" } : Jvm.MethodName) prog_87_method_13_code (4 : Nat) (Option.some Jvm.ClassFile.FieldType.boolean)) ∈ lw_all := lw_g (lw_at lw_m34 110 rfl) rfl
theorem q8517 : (Jvm.Cond.methodLink "KnowHouseModel$RightDeskModel" (77 : Nat) ({ cls := "KnowHouseModel$RightDeskModel", name := "wouldDecide", desc := "(IIZI)Z" } : Jvm.MethodName)) ∈ lw_all := lw_g (lw_at lw_m34 119 rfl) rfl
theorem q8519 : (Jvm.Cond.instanceMethod ({ cls := "KnowHouseModel$RightDeskModel", name := "wouldDecide", desc := "(IIZI)Z" } : Jvm.MethodName)) ∈ lw_all := lw_g (lw_at lw_m34 121 rfl) rfl
theorem q8520 : (Jvm.Cond.code ({ cls := "KnowHouseModel$RightDeskModel", name := "wouldDecide", desc := "(IIZI)Z" } : Jvm.MethodName) prog_87_method_22_code (6 : Nat) (Option.some Jvm.ClassFile.FieldType.boolean)) ∈ lw_all := lw_g (lw_at lw_m34 122 rfl) rfl
theorem gX51_38 : GoodIn lw_all (va_wsS RX51 38 yX51_in (ws_ yX51_in cX51_in 2 (Option.some Jvm.ClassFile.FieldType.boolean))) := lw_S q7221 q7222 q546 q7223
theorem gX51_46 : GoodIn lw_all (wsV RX51 46 RX51 yX51_fits (ws_ yX51_fits cX51_fits 5 (Option.some Jvm.ClassFile.FieldType.boolean))) := lw_V q8469 q8471 qs428 q546 q8472
theorem gX51_53 : GoodIn lw_all (va_wsS RX51 53 yX51_personOf (ws_ yX51_personOf cX51_personOf 1 (Option.some Jvm.ClassFile.FieldType.int))) := lw_S q7232 q7233 q546 q7234
theorem gX51_57 : GoodIn lw_all (va_wsS RX51 57 yX51_versionOf (ws_ yX51_versionOf cX51_versionOf 1 (Option.some Jvm.ClassFile.FieldType.int))) := lw_S q7235 q7236 q546 q7237
theorem gX51_60 : GoodIn lw_all (wsV RX51 60 RX51 yX51_look (ws_ yX51_look cX51_look 13 (Option.none : Option Jvm.ClassFile.FieldType))) := lw_V q7228 q7230 qs239 q546 q7231
theorem gX51_64 : GoodIn lw_all (wsV RX51 64 RX51 yX51_decide (ws_ yX51_decide cX51_decide 5 (Option.some Jvm.ClassFile.FieldType.int))) := lw_V q7238 q7240 qs240 q546 q7241
theorem gX51_67 : GoodIn lw_all (wsV RX51 67 RX51 yX51_decider (ws_ yX51_decider cX51_decider 3 (Option.some Jvm.ClassFile.FieldType.int))) := lw_V q7224 q7226 qs238 q546 q7227
theorem gX51_71 : GoodIn lw_all (wsV RX51 71 RX51 yX51_isHeld (ws_ yX51_isHeld cX51_isHeld 3 (Option.some Jvm.ClassFile.FieldType.boolean))) := lw_V q8485 q8487 qs429 q546 q8488
theorem gX51_74 : GoodIn lw_all (wsV RX51 74 RX51 yX51_isAllowed (ws_ yX51_isAllowed cX51_isAllowed 4 (Option.some Jvm.ClassFile.FieldType.boolean))) := lw_V q8505 q8507 qs430 q546 q8508
theorem gX51_77 : GoodIn lw_all (wsV RX51 77 RX51 yX51_wouldDecide (ws_ yX51_wouldDecide cX51_wouldDecide 6 (Option.some Jvm.ClassFile.FieldType.boolean))) := lw_V q8517 q8519 qs431 q546 q8520
theorem hX51_decide : yX51_decide.cls = RX51 ∧ yX51_decide.cls ≠ "java/lang/invoke/MethodHandle" ∧ yX51_decide.cls ≠ "java/lang/invoke/VarHandle" ∧ (parseMethodDescriptor yX51_decide.desc).map (fun d => d.parameters.length) = some 1 := by decide +kernel
theorem hX51_decider : yX51_decider.cls = RX51 ∧ yX51_decider.cls ≠ "java/lang/invoke/MethodHandle" ∧ yX51_decider.cls ≠ "java/lang/invoke/VarHandle" ∧ (parseMethodDescriptor yX51_decider.desc).map (fun d => d.parameters.length) = some 2 := by decide +kernel
theorem hX51_fits : yX51_fits.cls = RX51 ∧ yX51_fits.cls ≠ "java/lang/invoke/MethodHandle" ∧ yX51_fits.cls ≠ "java/lang/invoke/VarHandle" ∧ (parseMethodDescriptor yX51_fits.desc).map (fun d => d.parameters.length) = some 4 := by decide +kernel
theorem hX51_in : yX51_in.cls ≠ "java/lang/invoke/MethodHandle" ∧ yX51_in.cls ≠ "java/lang/invoke/VarHandle" ∧ (parseMethodDescriptor yX51_in.desc).map (fun d => d.parameters.length) = some 2 := by decide +kernel
theorem hX51_isAllowed : yX51_isAllowed.cls = RX51 ∧ yX51_isAllowed.cls ≠ "java/lang/invoke/MethodHandle" ∧ yX51_isAllowed.cls ≠ "java/lang/invoke/VarHandle" ∧ (parseMethodDescriptor yX51_isAllowed.desc).map (fun d => d.parameters.length) = some 2 := by decide +kernel
theorem hX51_isHeld : yX51_isHeld.cls = RX51 ∧ yX51_isHeld.cls ≠ "java/lang/invoke/MethodHandle" ∧ yX51_isHeld.cls ≠ "java/lang/invoke/VarHandle" ∧ (parseMethodDescriptor yX51_isHeld.desc).map (fun d => d.parameters.length) = some 2 := by decide +kernel
theorem hX51_look : yX51_look.cls = RX51 ∧ yX51_look.cls ≠ "java/lang/invoke/MethodHandle" ∧ yX51_look.cls ≠ "java/lang/invoke/VarHandle" ∧ (parseMethodDescriptor yX51_look.desc).map (fun d => d.parameters.length) = some 2 := by decide +kernel
theorem hX51_personOf : yX51_personOf.cls ≠ "java/lang/invoke/MethodHandle" ∧ yX51_personOf.cls ≠ "java/lang/invoke/VarHandle" ∧ (parseMethodDescriptor yX51_personOf.desc).map (fun d => d.parameters.length) = some 1 := by decide +kernel
theorem hX51_versionOf : yX51_versionOf.cls ≠ "java/lang/invoke/MethodHandle" ∧ yX51_versionOf.cls ≠ "java/lang/invoke/VarHandle" ∧ (parseMethodDescriptor yX51_versionOf.desc).map (fun d => d.parameters.length) = some 1 := by decide +kernel
theorem hX51_wouldDecide : yX51_wouldDecide.cls = RX51 ∧ yX51_wouldDecide.cls ≠ "java/lang/invoke/MethodHandle" ∧ yX51_wouldDecide.cls ≠ "java/lang/invoke/VarHandle" ∧ (parseMethodDescriptor yX51_wouldDecide.desc).map (fun d => d.parameters.length) = some 4 := by decide +kernel
