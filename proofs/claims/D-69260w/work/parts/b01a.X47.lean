/-! KnowHouseModel$CanonNamesModel (printed by tools/zgen.py) -/
set_option maxRecDepth 100000
def RX47 : String := "KnowHouseModel$CanonNamesModel"
def TX47 : u_T := fun k => match k with
  | 0 => ("KnowHouseModel$CanonNamesModel", "constants", "[J", true)
  | 1 => ("KnowHouseModel$CanonNamesModel", "blanks", "[I", true)
  | 2 => ("KnowHouseModel$CanonNamesModel", "counts", "[I", true)
  | 3 => ("KnowHouseModel$CanonNamesModel", "points", "[I", true)
  | 4 => ("KnowHouseModel$CanonNamesModel", "kept", "I", false)
  | 5 => ("KnowHouseModel$CanonNamesModel", "hashes", "[J", true)
  | 6 => ("KnowHouseModel$CanonNamesModel", "news", "[J", true)
  | 7 => ("KnowHouseModel$CanonNamesModel", "rounds", "I", false)
  | 8 => ("KnowHouseModel$CanonNamesModel", "hashed", "Z", false)
  | 9 => ("KnowHouseModel$CanonNamesModel", "groups", "[I", true)
  | 10 => ("KnowHouseModel$CanonNamesModel", "groupOf", "[I", true)
  | 11 => ("KnowHouseModel$CanonNamesModel", "groupCount", "I", false)
  | 12 => ("KnowHouseModel$CanonNamesModel", "trial", "[I", true)
  | 13 => ("KnowHouseModel$CanonNamesModel", "row", "[I", true)
  | 14 => ("KnowHouseModel$CanonNamesModel", "names", "[I", true)
  | 15 => ("KnowHouseModel$CanonNamesModel", "namedBlanks", "I", false)
  | 16 => ("KnowHouseModel$CanonNamesModel", "form", "[I", true)
  | 17 => ("KnowHouseModel$CanonNamesModel", "formCount", "I", false)
  | 18 => ("KnowHouseModel$CanonNamesModel", "octets", "[B", true)
  | 19 => ("KnowHouseModel$CanonNamesModel", "descriptions", "[I", true)
  | 20 => ("KnowHouseModel$CanonNamesModel", "described", "I", false)
  | 21 => ("KnowHouseModel$CanonNamesModel", "message", "[B", true)
  | 22 => ("KnowHouseModel$CanonNamesModel", "size", "I", false)
  | 23 => ("KnowHouseModel$CanonNamesModel", "words", "[J", true)
  | 24 => ("KnowHouseModel$CanonNamesModel", "schedule", "[J", true)
  | 25 => ("KnowHouseModel$CanonNamesModel", "thrown", "I", false)
  | _ => ("KnowHouseModel$CanonNamesModel", "said", "[Z", true)
def tyX47 : Nat → FieldType := fun k => match k with
  | 0 => .array .long
  | 1 => .array .int
  | 2 => .array .int
  | 3 => .array .int
  | 4 => .int
  | 5 => .array .long
  | 6 => .array .long
  | 7 => .int
  | 8 => .boolean
  | 9 => .array .int
  | 10 => .array .int
  | 11 => .int
  | 12 => .array .int
  | 13 => .array .int
  | 14 => .array .int
  | 15 => .int
  | 16 => .array .int
  | 17 => .int
  | 18 => .array .byte
  | 19 => .array .int
  | 20 => .int
  | 21 => .array .byte
  | 22 => .int
  | 23 => .array .long
  | 24 => .array .long
  | 25 => .int
  | _ => .array .boolean
abbrev wsX470 : List Cond := u_ws RX47 TX47 27
theorem nmX47 : ∀ a, a < 27 → ∀ b, b < 27 → a ≠ b → (TX47 a).2.1 ≠ (TX47 b).2.1 := by decide +kernel
theorem tyX47_ok : ∀ k, k < 27 → parseFieldDescriptor (TX47 k).2.2.1 = some (tyX47 k) := by decide +kernel
abbrev cX47_init : ByteArray := prog_80_method_2_code
def yX47_init : MethodName := ⟨RX47, "<init>", "()V"⟩
abbrev cX47_digestOf : ByteArray := prog_80_method_4_code
def yX47_digestOf : MethodName := ⟨RX47, "digestOf", "(I)V"⟩
theorem dX47_digestOf_0 : decode cX47_digestOf 0 = .ok (.aload_n 0, 1) := by decide +kernel
theorem dX47_digestOf_1 : decode cX47_digestOf 1 = .ok (.getfield 189, 3) := by decide +kernel
theorem dX47_digestOf_4 : decode cX47_digestOf 4 = .ok (.iconst 0, 1) := by decide +kernel
theorem dX47_digestOf_5 : decode cX47_digestOf 5 = .ok (.ldc2_w 208, 3) := by decide +kernel
theorem dX47_digestOf_8 : decode cX47_digestOf 8 = .ok (.lastore, 1) := by decide +kernel
theorem dX47_digestOf_9 : decode cX47_digestOf 9 = .ok (.aload_n 0, 1) := by decide +kernel
theorem dX47_digestOf_10 : decode cX47_digestOf 10 = .ok (.getfield 189, 3) := by decide +kernel
theorem dX47_digestOf_13 : decode cX47_digestOf 13 = .ok (.iconst 1, 1) := by decide +kernel
theorem dX47_digestOf_14 : decode cX47_digestOf 14 = .ok (.ldc2_w 210, 3) := by decide +kernel
theorem dX47_digestOf_17 : decode cX47_digestOf 17 = .ok (.lastore, 1) := by decide +kernel
theorem dX47_digestOf_18 : decode cX47_digestOf 18 = .ok (.aload_n 0, 1) := by decide +kernel
theorem dX47_digestOf_19 : decode cX47_digestOf 19 = .ok (.getfield 189, 3) := by decide +kernel
theorem dX47_digestOf_22 : decode cX47_digestOf 22 = .ok (.iconst 2, 1) := by decide +kernel
theorem dX47_digestOf_23 : decode cX47_digestOf 23 = .ok (.ldc2_w 212, 3) := by decide +kernel
theorem dX47_digestOf_26 : decode cX47_digestOf 26 = .ok (.lastore, 1) := by decide +kernel
theorem dX47_digestOf_27 : decode cX47_digestOf 27 = .ok (.aload_n 0, 1) := by decide +kernel
theorem dX47_digestOf_28 : decode cX47_digestOf 28 = .ok (.getfield 189, 3) := by decide +kernel
theorem dX47_digestOf_31 : decode cX47_digestOf 31 = .ok (.iconst 3, 1) := by decide +kernel
theorem dX47_digestOf_32 : decode cX47_digestOf 32 = .ok (.ldc2_w 214, 3) := by decide +kernel
theorem dX47_digestOf_35 : decode cX47_digestOf 35 = .ok (.lastore, 1) := by decide +kernel
theorem dX47_digestOf_36 : decode cX47_digestOf 36 = .ok (.aload_n 0, 1) := by decide +kernel
theorem dX47_digestOf_37 : decode cX47_digestOf 37 = .ok (.getfield 189, 3) := by decide +kernel
theorem dX47_digestOf_40 : decode cX47_digestOf 40 = .ok (.iconst 4, 1) := by decide +kernel
theorem dX47_digestOf_41 : decode cX47_digestOf 41 = .ok (.ldc2_w 216, 3) := by decide +kernel
theorem dX47_digestOf_44 : decode cX47_digestOf 44 = .ok (.lastore, 1) := by decide +kernel
theorem dX47_digestOf_45 : decode cX47_digestOf 45 = .ok (.aload_n 0, 1) := by decide +kernel
theorem dX47_digestOf_46 : decode cX47_digestOf 46 = .ok (.getfield 189, 3) := by decide +kernel
theorem dX47_digestOf_49 : decode cX47_digestOf 49 = .ok (.iconst 5, 1) := by decide +kernel
theorem dX47_digestOf_50 : decode cX47_digestOf 50 = .ok (.ldc2_w 218, 3) := by decide +kernel
theorem dX47_digestOf_53 : decode cX47_digestOf 53 = .ok (.lastore, 1) := by decide +kernel
theorem dX47_digestOf_54 : decode cX47_digestOf 54 = .ok (.aload_n 0, 1) := by decide +kernel
theorem dX47_digestOf_55 : decode cX47_digestOf 55 = .ok (.getfield 189, 3) := by decide +kernel
theorem dX47_digestOf_58 : decode cX47_digestOf 58 = .ok (.bipush 6, 2) := by decide +kernel
theorem dX47_digestOf_60 : decode cX47_digestOf 60 = .ok (.ldc2_w 220, 3) := by decide +kernel
theorem dX47_digestOf_63 : decode cX47_digestOf 63 = .ok (.lastore, 1) := by decide +kernel
theorem dX47_digestOf_64 : decode cX47_digestOf 64 = .ok (.aload_n 0, 1) := by decide +kernel
theorem dX47_digestOf_65 : decode cX47_digestOf 65 = .ok (.getfield 189, 3) := by decide +kernel
theorem dX47_digestOf_68 : decode cX47_digestOf 68 = .ok (.bipush 7, 2) := by decide +kernel
theorem dX47_digestOf_70 : decode cX47_digestOf 70 = .ok (.ldc2_w 222, 3) := by decide +kernel
theorem dX47_digestOf_73 : decode cX47_digestOf 73 = .ok (.lastore, 1) := by decide +kernel
theorem dX47_digestOf_74 : decode cX47_digestOf 74 = .ok (.iload_n 1, 1) := by decide +kernel
theorem dX47_digestOf_75 : decode cX47_digestOf 75 = .ok (.istore_n 2, 1) := by decide +kernel
theorem dX47_digestOf_76 : decode cX47_digestOf 76 = .ok (.aload_n 0, 1) := by decide +kernel
theorem dX47_digestOf_77 : decode cX47_digestOf 77 = .ok (.getfield 186, 3) := by decide +kernel
theorem dX47_digestOf_80 : decode cX47_digestOf 80 = .ok (.iload_n 2, 1) := by decide +kernel
theorem dX47_digestOf_81 : decode cX47_digestOf 81 = .ok (.bipush (-128), 2) := by decide +kernel
theorem dX47_digestOf_83 : decode cX47_digestOf 83 = .ok (.bastore, 1) := by decide +kernel
theorem dX47_digestOf_84 : decode cX47_digestOf 84 = .ok (.iinc 2 1, 3) := by decide +kernel
theorem dX47_digestOf_87 : decode cX47_digestOf 87 = .ok (.iload_n 2, 1) := by decide +kernel
theorem dX47_digestOf_88 : decode cX47_digestOf 88 = .ok (.bipush 64, 2) := by decide +kernel
theorem dX47_digestOf_90 : decode cX47_digestOf 90 = .ok (.irem, 1) := by decide +kernel
theorem dX47_digestOf_91 : decode cX47_digestOf 91 = .ok (.bipush 56, 2) := by decide +kernel
theorem dX47_digestOf_93 : decode cX47_digestOf 93 = .ok (.if_icmp .eq 16, 3) := by decide +kernel
theorem dX47_digestOf_96 : decode cX47_digestOf 96 = .ok (.aload_n 0, 1) := by decide +kernel
theorem dX47_digestOf_97 : decode cX47_digestOf 97 = .ok (.getfield 186, 3) := by decide +kernel
theorem dX47_digestOf_100 : decode cX47_digestOf 100 = .ok (.iload_n 2, 1) := by decide +kernel
theorem dX47_digestOf_101 : decode cX47_digestOf 101 = .ok (.iconst 0, 1) := by decide +kernel
theorem dX47_digestOf_102 : decode cX47_digestOf 102 = .ok (.bastore, 1) := by decide +kernel
theorem dX47_digestOf_103 : decode cX47_digestOf 103 = .ok (.iinc 2 1, 3) := by decide +kernel
theorem dX47_digestOf_106 : decode cX47_digestOf 106 = .ok (.goto (-19), 3) := by decide +kernel
theorem dX47_digestOf_109 : decode cX47_digestOf 109 = .ok (.bipush 7, 2) := by decide +kernel
theorem dX47_digestOf_111 : decode cX47_digestOf 111 = .ok (.istore_n 3, 1) := by decide +kernel
theorem dX47_digestOf_112 : decode cX47_digestOf 112 = .ok (.iload_n 3, 1) := by decide +kernel
theorem dX47_digestOf_113 : decode cX47_digestOf 113 = .ok (.ifCond .lt 31, 3) := by decide +kernel
theorem dX47_digestOf_116 : decode cX47_digestOf 116 = .ok (.aload_n 0, 1) := by decide +kernel
theorem dX47_digestOf_117 : decode cX47_digestOf 117 = .ok (.getfield 186, 3) := by decide +kernel
theorem dX47_digestOf_120 : decode cX47_digestOf 120 = .ok (.iload_n 2, 1) := by decide +kernel
theorem dX47_digestOf_121 : decode cX47_digestOf 121 = .ok (.ldc2_w 224, 3) := by decide +kernel
theorem dX47_digestOf_124 : decode cX47_digestOf 124 = .ok (.iload_n 1, 1) := by decide +kernel
theorem dX47_digestOf_125 : decode cX47_digestOf 125 = .ok (.i2l, 1) := by decide +kernel
theorem dX47_digestOf_126 : decode cX47_digestOf 126 = .ok (.lmul, 1) := by decide +kernel
theorem dX47_digestOf_127 : decode cX47_digestOf 127 = .ok (.bipush 8, 2) := by decide +kernel
theorem dX47_digestOf_129 : decode cX47_digestOf 129 = .ok (.iload_n 3, 1) := by decide +kernel
theorem dX47_digestOf_130 : decode cX47_digestOf 130 = .ok (.imul, 1) := by decide +kernel
theorem dX47_digestOf_131 : decode cX47_digestOf 131 = .ok (.lshr, 1) := by decide +kernel
theorem dX47_digestOf_132 : decode cX47_digestOf 132 = .ok (.l2i, 1) := by decide +kernel
theorem dX47_digestOf_133 : decode cX47_digestOf 133 = .ok (.i2b, 1) := by decide +kernel
theorem dX47_digestOf_134 : decode cX47_digestOf 134 = .ok (.bastore, 1) := by decide +kernel
theorem dX47_digestOf_135 : decode cX47_digestOf 135 = .ok (.iinc 2 1, 3) := by decide +kernel
theorem dX47_digestOf_138 : decode cX47_digestOf 138 = .ok (.iinc 3 (-1), 3) := by decide +kernel
theorem dX47_digestOf_141 : decode cX47_digestOf 141 = .ok (.goto (-29), 3) := by decide +kernel
theorem dX47_digestOf_144 : decode cX47_digestOf 144 = .ok (.iconst 0, 1) := by decide +kernel
theorem dX47_digestOf_145 : decode cX47_digestOf 145 = .ok (.istore_n 3, 1) := by decide +kernel
theorem dX47_digestOf_146 : decode cX47_digestOf 146 = .ok (.iload_n 3, 1) := by decide +kernel
theorem dX47_digestOf_147 : decode cX47_digestOf 147 = .ok (.iload_n 2, 1) := by decide +kernel
theorem dX47_digestOf_148 : decode cX47_digestOf 148 = .ok (.if_icmp .ge 14, 3) := by decide +kernel
theorem dX47_digestOf_151 : decode cX47_digestOf 151 = .ok (.aload_n 0, 1) := by decide +kernel
theorem dX47_digestOf_152 : decode cX47_digestOf 152 = .ok (.iload_n 3, 1) := by decide +kernel
theorem dX47_digestOf_153 : decode cX47_digestOf 153 = .ok (.invokevirtual 226, 3) := by decide +kernel
theorem dX47_digestOf_156 : decode cX47_digestOf 156 = .ok (.iinc 3 64, 3) := by decide +kernel
theorem dX47_digestOf_159 : decode cX47_digestOf 159 = .ok (.goto (-13), 3) := by decide +kernel
theorem dX47_digestOf_162 : decode cX47_digestOf 162 = .ok (.return_, 1) := by decide +kernel
abbrev cX47_block : ByteArray := prog_80_method_5_code
def yX47_block : MethodName := ⟨RX47, "block", "(I)V"⟩
theorem dX47_block_0 : decode cX47_block 0 = .ok (.iconst 0, 1) := by decide +kernel
theorem dX47_block_1 : decode cX47_block 1 = .ok (.istore_n 2, 1) := by decide +kernel
theorem dX47_block_2 : decode cX47_block 2 = .ok (.iload_n 2, 1) := by decide +kernel
theorem dX47_block_3 : decode cX47_block 3 = .ok (.bipush 16, 2) := by decide +kernel
theorem dX47_block_5 : decode cX47_block 5 = .ok (.if_icmp .ge 58, 3) := by decide +kernel
theorem dX47_block_8 : decode cX47_block 8 = .ok (.lconst 0, 1) := by decide +kernel
theorem dX47_block_9 : decode cX47_block 9 = .ok (.lstore_n 3, 1) := by decide +kernel
theorem dX47_block_10 : decode cX47_block 10 = .ok (.iconst 0, 1) := by decide +kernel
theorem dX47_block_11 : decode cX47_block 11 = .ok (.istore 5, 2) := by decide +kernel
theorem dX47_block_13 : decode cX47_block 13 = .ok (.iload 5, 2) := by decide +kernel
theorem dX47_block_15 : decode cX47_block 15 = .ok (.iconst 4, 1) := by decide +kernel
theorem dX47_block_16 : decode cX47_block 16 = .ok (.if_icmp .ge 34, 3) := by decide +kernel
theorem dX47_block_19 : decode cX47_block 19 = .ok (.ldc2_w 229, 3) := by decide +kernel
theorem dX47_block_22 : decode cX47_block 22 = .ok (.lload_n 3, 1) := by decide +kernel
theorem dX47_block_23 : decode cX47_block 23 = .ok (.lmul, 1) := by decide +kernel
theorem dX47_block_24 : decode cX47_block 24 = .ok (.aload_n 0, 1) := by decide +kernel
theorem dX47_block_25 : decode cX47_block 25 = .ok (.getfield 186, 3) := by decide +kernel
theorem dX47_block_28 : decode cX47_block 28 = .ok (.iload_n 1, 1) := by decide +kernel
theorem dX47_block_29 : decode cX47_block 29 = .ok (.iconst 4, 1) := by decide +kernel
theorem dX47_block_30 : decode cX47_block 30 = .ok (.iload_n 2, 1) := by decide +kernel
theorem dX47_block_31 : decode cX47_block 31 = .ok (.imul, 1) := by decide +kernel
theorem dX47_block_32 : decode cX47_block 32 = .ok (.iadd, 1) := by decide +kernel
theorem dX47_block_33 : decode cX47_block 33 = .ok (.iload 5, 2) := by decide +kernel
theorem dX47_block_35 : decode cX47_block 35 = .ok (.iadd, 1) := by decide +kernel
theorem dX47_block_36 : decode cX47_block 36 = .ok (.baload, 1) := by decide +kernel
theorem dX47_block_37 : decode cX47_block 37 = .ok (.sipush 255, 3) := by decide +kernel
theorem dX47_block_40 : decode cX47_block 40 = .ok (.iand, 1) := by decide +kernel
theorem dX47_block_41 : decode cX47_block 41 = .ok (.i2l, 1) := by decide +kernel
theorem dX47_block_42 : decode cX47_block 42 = .ok (.ladd, 1) := by decide +kernel
theorem dX47_block_43 : decode cX47_block 43 = .ok (.lstore_n 3, 1) := by decide +kernel
theorem dX47_block_44 : decode cX47_block 44 = .ok (.iinc 5 1, 3) := by decide +kernel
theorem dX47_block_47 : decode cX47_block 47 = .ok (.goto (-34), 3) := by decide +kernel
theorem dX47_block_50 : decode cX47_block 50 = .ok (.aload_n 0, 1) := by decide +kernel
theorem dX47_block_51 : decode cX47_block 51 = .ok (.getfield 192, 3) := by decide +kernel
theorem dX47_block_54 : decode cX47_block 54 = .ok (.iload_n 2, 1) := by decide +kernel
theorem dX47_block_55 : decode cX47_block 55 = .ok (.lload_n 3, 1) := by decide +kernel
theorem dX47_block_56 : decode cX47_block 56 = .ok (.lastore, 1) := by decide +kernel
theorem dX47_block_57 : decode cX47_block 57 = .ok (.iinc 2 1, 3) := by decide +kernel
theorem dX47_block_60 : decode cX47_block 60 = .ok (.goto (-58), 3) := by decide +kernel
theorem dX47_block_63 : decode cX47_block 63 = .ok (.bipush 16, 2) := by decide +kernel
theorem dX47_block_65 : decode cX47_block 65 = .ok (.istore_n 2, 1) := by decide +kernel
theorem dX47_block_66 : decode cX47_block 66 = .ok (.iload_n 2, 1) := by decide +kernel
theorem dX47_block_67 : decode cX47_block 67 = .ok (.bipush 64, 2) := by decide +kernel
theorem dX47_block_69 : decode cX47_block 69 = .ok (.if_icmp .ge 106, 3) := by decide +kernel
theorem dX47_block_72 : decode cX47_block 72 = .ok (.aload_n 0, 1) := by decide +kernel
theorem dX47_block_73 : decode cX47_block 73 = .ok (.getfield 192, 3) := by decide +kernel
theorem dX47_block_76 : decode cX47_block 76 = .ok (.iload_n 2, 1) := by decide +kernel
theorem dX47_block_77 : decode cX47_block 77 = .ok (.bipush 15, 2) := by decide +kernel
theorem dX47_block_79 : decode cX47_block 79 = .ok (.isub, 1) := by decide +kernel
theorem dX47_block_80 : decode cX47_block 80 = .ok (.laload, 1) := by decide +kernel
theorem dX47_block_81 : decode cX47_block 81 = .ok (.lstore_n 3, 1) := by decide +kernel
theorem dX47_block_82 : decode cX47_block 82 = .ok (.aload_n 0, 1) := by decide +kernel
theorem dX47_block_83 : decode cX47_block 83 = .ok (.getfield 192, 3) := by decide +kernel
theorem dX47_block_86 : decode cX47_block 86 = .ok (.iload_n 2, 1) := by decide +kernel
theorem dX47_block_87 : decode cX47_block 87 = .ok (.iconst 2, 1) := by decide +kernel
theorem dX47_block_88 : decode cX47_block 88 = .ok (.isub, 1) := by decide +kernel
theorem dX47_block_89 : decode cX47_block 89 = .ok (.laload, 1) := by decide +kernel
theorem dX47_block_90 : decode cX47_block 90 = .ok (.lstore 5, 2) := by decide +kernel
theorem dX47_block_92 : decode cX47_block 92 = .ok (.lload_n 3, 1) := by decide +kernel
theorem dX47_block_93 : decode cX47_block 93 = .ok (.bipush 7, 2) := by decide +kernel
theorem dX47_block_95 : decode cX47_block 95 = .ok (.invokestatic 231, 3) := by decide +kernel
theorem dX47_block_98 : decode cX47_block 98 = .ok (.lload_n 3, 1) := by decide +kernel
theorem dX47_block_99 : decode cX47_block 99 = .ok (.bipush 18, 2) := by decide +kernel
theorem dX47_block_101 : decode cX47_block 101 = .ok (.invokestatic 231, 3) := by decide +kernel
theorem dX47_block_104 : decode cX47_block 104 = .ok (.lxor, 1) := by decide +kernel
theorem dX47_block_105 : decode cX47_block 105 = .ok (.lload_n 3, 1) := by decide +kernel
theorem dX47_block_106 : decode cX47_block 106 = .ok (.iconst 3, 1) := by decide +kernel
theorem dX47_block_107 : decode cX47_block 107 = .ok (.lshr, 1) := by decide +kernel
theorem dX47_block_108 : decode cX47_block 108 = .ok (.lxor, 1) := by decide +kernel
theorem dX47_block_109 : decode cX47_block 109 = .ok (.lstore 7, 2) := by decide +kernel
theorem dX47_block_111 : decode cX47_block 111 = .ok (.lload 5, 2) := by decide +kernel
theorem dX47_block_113 : decode cX47_block 113 = .ok (.bipush 17, 2) := by decide +kernel
theorem dX47_block_115 : decode cX47_block 115 = .ok (.invokestatic 231, 3) := by decide +kernel
theorem dX47_block_118 : decode cX47_block 118 = .ok (.lload 5, 2) := by decide +kernel
theorem dX47_block_120 : decode cX47_block 120 = .ok (.bipush 19, 2) := by decide +kernel
theorem dX47_block_122 : decode cX47_block 122 = .ok (.invokestatic 231, 3) := by decide +kernel
theorem dX47_block_125 : decode cX47_block 125 = .ok (.lxor, 1) := by decide +kernel
theorem dX47_block_126 : decode cX47_block 126 = .ok (.lload 5, 2) := by decide +kernel
theorem dX47_block_128 : decode cX47_block 128 = .ok (.bipush 10, 2) := by decide +kernel
theorem dX47_block_130 : decode cX47_block 130 = .ok (.lshr, 1) := by decide +kernel
theorem dX47_block_131 : decode cX47_block 131 = .ok (.lxor, 1) := by decide +kernel
theorem dX47_block_132 : decode cX47_block 132 = .ok (.lstore 9, 2) := by decide +kernel
theorem dX47_block_134 : decode cX47_block 134 = .ok (.aload_n 0, 1) := by decide +kernel
theorem dX47_block_135 : decode cX47_block 135 = .ok (.getfield 192, 3) := by decide +kernel
theorem dX47_block_138 : decode cX47_block 138 = .ok (.iload_n 2, 1) := by decide +kernel
theorem dX47_block_139 : decode cX47_block 139 = .ok (.aload_n 0, 1) := by decide +kernel
theorem dX47_block_140 : decode cX47_block 140 = .ok (.getfield 192, 3) := by decide +kernel
theorem dX47_block_143 : decode cX47_block 143 = .ok (.iload_n 2, 1) := by decide +kernel
theorem dX47_block_144 : decode cX47_block 144 = .ok (.bipush 16, 2) := by decide +kernel
theorem dX47_block_146 : decode cX47_block 146 = .ok (.isub, 1) := by decide +kernel
theorem dX47_block_147 : decode cX47_block 147 = .ok (.laload, 1) := by decide +kernel
theorem dX47_block_148 : decode cX47_block 148 = .ok (.lload 7, 2) := by decide +kernel
theorem dX47_block_150 : decode cX47_block 150 = .ok (.ladd, 1) := by decide +kernel
theorem dX47_block_151 : decode cX47_block 151 = .ok (.aload_n 0, 1) := by decide +kernel
theorem dX47_block_152 : decode cX47_block 152 = .ok (.getfield 192, 3) := by decide +kernel
theorem dX47_block_155 : decode cX47_block 155 = .ok (.iload_n 2, 1) := by decide +kernel
theorem dX47_block_156 : decode cX47_block 156 = .ok (.bipush 7, 2) := by decide +kernel
theorem dX47_block_158 : decode cX47_block 158 = .ok (.isub, 1) := by decide +kernel
theorem dX47_block_159 : decode cX47_block 159 = .ok (.laload, 1) := by decide +kernel
theorem dX47_block_160 : decode cX47_block 160 = .ok (.ladd, 1) := by decide +kernel
theorem dX47_block_161 : decode cX47_block 161 = .ok (.lload 9, 2) := by decide +kernel
theorem dX47_block_163 : decode cX47_block 163 = .ok (.ladd, 1) := by decide +kernel
theorem dX47_block_164 : decode cX47_block 164 = .ok (.ldc2_w 206, 3) := by decide +kernel
theorem dX47_block_167 : decode cX47_block 167 = .ok (.land, 1) := by decide +kernel
theorem dX47_block_168 : decode cX47_block 168 = .ok (.lastore, 1) := by decide +kernel
theorem dX47_block_169 : decode cX47_block 169 = .ok (.iinc 2 1, 3) := by decide +kernel
theorem dX47_block_172 : decode cX47_block 172 = .ok (.goto (-106), 3) := by decide +kernel
theorem dX47_block_175 : decode cX47_block 175 = .ok (.aload_n 0, 1) := by decide +kernel
theorem dX47_block_176 : decode cX47_block 176 = .ok (.getfield 189, 3) := by decide +kernel
theorem dX47_block_179 : decode cX47_block 179 = .ok (.iconst 0, 1) := by decide +kernel
theorem dX47_block_180 : decode cX47_block 180 = .ok (.laload, 1) := by decide +kernel
theorem dX47_block_181 : decode cX47_block 181 = .ok (.lstore_n 2, 1) := by decide +kernel
theorem dX47_block_182 : decode cX47_block 182 = .ok (.aload_n 0, 1) := by decide +kernel
theorem dX47_block_183 : decode cX47_block 183 = .ok (.getfield 189, 3) := by decide +kernel
theorem dX47_block_186 : decode cX47_block 186 = .ok (.iconst 1, 1) := by decide +kernel
theorem dX47_block_187 : decode cX47_block 187 = .ok (.laload, 1) := by decide +kernel
theorem dX47_block_188 : decode cX47_block 188 = .ok (.lstore 4, 2) := by decide +kernel
theorem dX47_block_190 : decode cX47_block 190 = .ok (.aload_n 0, 1) := by decide +kernel
theorem dX47_block_191 : decode cX47_block 191 = .ok (.getfield 189, 3) := by decide +kernel
theorem dX47_block_194 : decode cX47_block 194 = .ok (.iconst 2, 1) := by decide +kernel
theorem dX47_block_195 : decode cX47_block 195 = .ok (.laload, 1) := by decide +kernel
theorem dX47_block_196 : decode cX47_block 196 = .ok (.lstore 6, 2) := by decide +kernel
theorem dX47_block_198 : decode cX47_block 198 = .ok (.aload_n 0, 1) := by decide +kernel
theorem dX47_block_199 : decode cX47_block 199 = .ok (.getfield 189, 3) := by decide +kernel
theorem dX47_block_202 : decode cX47_block 202 = .ok (.iconst 3, 1) := by decide +kernel
theorem dX47_block_203 : decode cX47_block 203 = .ok (.laload, 1) := by decide +kernel
theorem dX47_block_204 : decode cX47_block 204 = .ok (.lstore 8, 2) := by decide +kernel
theorem dX47_block_206 : decode cX47_block 206 = .ok (.aload_n 0, 1) := by decide +kernel
theorem dX47_block_207 : decode cX47_block 207 = .ok (.getfield 189, 3) := by decide +kernel
theorem dX47_block_210 : decode cX47_block 210 = .ok (.iconst 4, 1) := by decide +kernel
theorem dX47_block_211 : decode cX47_block 211 = .ok (.laload, 1) := by decide +kernel
theorem dX47_block_212 : decode cX47_block 212 = .ok (.lstore 10, 2) := by decide +kernel
theorem dX47_block_214 : decode cX47_block 214 = .ok (.aload_n 0, 1) := by decide +kernel
theorem dX47_block_215 : decode cX47_block 215 = .ok (.getfield 189, 3) := by decide +kernel
theorem dX47_block_218 : decode cX47_block 218 = .ok (.iconst 5, 1) := by decide +kernel
theorem dX47_block_219 : decode cX47_block 219 = .ok (.laload, 1) := by decide +kernel
theorem dX47_block_220 : decode cX47_block 220 = .ok (.lstore 12, 2) := by decide +kernel
theorem dX47_block_222 : decode cX47_block 222 = .ok (.aload_n 0, 1) := by decide +kernel
theorem dX47_block_223 : decode cX47_block 223 = .ok (.getfield 189, 3) := by decide +kernel
theorem dX47_block_226 : decode cX47_block 226 = .ok (.bipush 6, 2) := by decide +kernel
theorem dX47_block_228 : decode cX47_block 228 = .ok (.laload, 1) := by decide +kernel
theorem dX47_block_229 : decode cX47_block 229 = .ok (.lstore 14, 2) := by decide +kernel
theorem dX47_block_231 : decode cX47_block 231 = .ok (.aload_n 0, 1) := by decide +kernel
theorem dX47_block_232 : decode cX47_block 232 = .ok (.getfield 189, 3) := by decide +kernel
theorem dX47_block_235 : decode cX47_block 235 = .ok (.bipush 7, 2) := by decide +kernel
theorem dX47_block_237 : decode cX47_block 237 = .ok (.laload, 1) := by decide +kernel
theorem dX47_block_238 : decode cX47_block 238 = .ok (.lstore 16, 2) := by decide +kernel
theorem dX47_block_240 : decode cX47_block 240 = .ok (.iconst 0, 1) := by decide +kernel
theorem dX47_block_241 : decode cX47_block 241 = .ok (.istore 18, 2) := by decide +kernel
theorem dX47_block_243 : decode cX47_block 243 = .ok (.iload 18, 2) := by decide +kernel
theorem dX47_block_245 : decode cX47_block 245 = .ok (.bipush 64, 2) := by decide +kernel
theorem dX47_block_247 : decode cX47_block 247 = .ok (.if_icmp .ge 150, 3) := by decide +kernel
theorem dX47_block_250 : decode cX47_block 250 = .ok (.lload 16, 2) := by decide +kernel
theorem dX47_block_252 : decode cX47_block 252 = .ok (.lload 10, 2) := by decide +kernel
theorem dX47_block_254 : decode cX47_block 254 = .ok (.bipush 6, 2) := by decide +kernel
theorem dX47_block_256 : decode cX47_block 256 = .ok (.invokestatic 231, 3) := by decide +kernel
theorem dX47_block_259 : decode cX47_block 259 = .ok (.lload 10, 2) := by decide +kernel
theorem dX47_block_261 : decode cX47_block 261 = .ok (.bipush 11, 2) := by decide +kernel
theorem dX47_block_263 : decode cX47_block 263 = .ok (.invokestatic 231, 3) := by decide +kernel
theorem dX47_block_266 : decode cX47_block 266 = .ok (.lxor, 1) := by decide +kernel
theorem dX47_block_267 : decode cX47_block 267 = .ok (.lload 10, 2) := by decide +kernel
theorem dX47_block_269 : decode cX47_block 269 = .ok (.bipush 25, 2) := by decide +kernel
theorem dX47_block_271 : decode cX47_block 271 = .ok (.invokestatic 231, 3) := by decide +kernel
theorem dX47_block_274 : decode cX47_block 274 = .ok (.lxor, 1) := by decide +kernel
theorem dX47_block_275 : decode cX47_block 275 = .ok (.ladd, 1) := by decide +kernel
theorem dX47_block_276 : decode cX47_block 276 = .ok (.lload 10, 2) := by decide +kernel
theorem dX47_block_278 : decode cX47_block 278 = .ok (.lload 12, 2) := by decide +kernel
theorem dX47_block_280 : decode cX47_block 280 = .ok (.land, 1) := by decide +kernel
theorem dX47_block_281 : decode cX47_block 281 = .ok (.ldc2_w 206, 3) := by decide +kernel
theorem dX47_block_284 : decode cX47_block 284 = .ok (.lload 10, 2) := by decide +kernel
theorem dX47_block_286 : decode cX47_block 286 = .ok (.lsub, 1) := by decide +kernel
theorem dX47_block_287 : decode cX47_block 287 = .ok (.lload 14, 2) := by decide +kernel
theorem dX47_block_289 : decode cX47_block 289 = .ok (.land, 1) := by decide +kernel
theorem dX47_block_290 : decode cX47_block 290 = .ok (.lxor, 1) := by decide +kernel
theorem dX47_block_291 : decode cX47_block 291 = .ok (.ladd, 1) := by decide +kernel
theorem dX47_block_292 : decode cX47_block 292 = .ok (.aload_n 0, 1) := by decide +kernel
theorem dX47_block_293 : decode cX47_block 293 = .ok (.getfield 141, 3) := by decide +kernel
theorem dX47_block_296 : decode cX47_block 296 = .ok (.iload 18, 2) := by decide +kernel
theorem dX47_block_298 : decode cX47_block 298 = .ok (.laload, 1) := by decide +kernel
theorem dX47_block_299 : decode cX47_block 299 = .ok (.ladd, 1) := by decide +kernel
theorem dX47_block_300 : decode cX47_block 300 = .ok (.aload_n 0, 1) := by decide +kernel
theorem dX47_block_301 : decode cX47_block 301 = .ok (.getfield 192, 3) := by decide +kernel
theorem dX47_block_304 : decode cX47_block 304 = .ok (.iload 18, 2) := by decide +kernel
theorem dX47_block_306 : decode cX47_block 306 = .ok (.laload, 1) := by decide +kernel
theorem dX47_block_307 : decode cX47_block 307 = .ok (.ladd, 1) := by decide +kernel
theorem dX47_block_308 : decode cX47_block 308 = .ok (.lstore 19, 2) := by decide +kernel
theorem dX47_block_310 : decode cX47_block 310 = .ok (.lload_n 2, 1) := by decide +kernel
theorem dX47_block_311 : decode cX47_block 311 = .ok (.iconst 2, 1) := by decide +kernel
theorem dX47_block_312 : decode cX47_block 312 = .ok (.invokestatic 231, 3) := by decide +kernel
theorem dX47_block_315 : decode cX47_block 315 = .ok (.lload_n 2, 1) := by decide +kernel
theorem dX47_block_316 : decode cX47_block 316 = .ok (.bipush 13, 2) := by decide +kernel
theorem dX47_block_318 : decode cX47_block 318 = .ok (.invokestatic 231, 3) := by decide +kernel
theorem dX47_block_321 : decode cX47_block 321 = .ok (.lxor, 1) := by decide +kernel
theorem dX47_block_322 : decode cX47_block 322 = .ok (.lload_n 2, 1) := by decide +kernel
theorem dX47_block_323 : decode cX47_block 323 = .ok (.bipush 22, 2) := by decide +kernel
theorem dX47_block_325 : decode cX47_block 325 = .ok (.invokestatic 231, 3) := by decide +kernel
theorem dX47_block_328 : decode cX47_block 328 = .ok (.lxor, 1) := by decide +kernel
theorem dX47_block_329 : decode cX47_block 329 = .ok (.lload_n 2, 1) := by decide +kernel
theorem dX47_block_330 : decode cX47_block 330 = .ok (.lload 4, 2) := by decide +kernel
theorem dX47_block_332 : decode cX47_block 332 = .ok (.land, 1) := by decide +kernel
theorem dX47_block_333 : decode cX47_block 333 = .ok (.lload_n 2, 1) := by decide +kernel
theorem dX47_block_334 : decode cX47_block 334 = .ok (.lload 6, 2) := by decide +kernel
theorem dX47_block_336 : decode cX47_block 336 = .ok (.land, 1) := by decide +kernel
theorem dX47_block_337 : decode cX47_block 337 = .ok (.lxor, 1) := by decide +kernel
theorem dX47_block_338 : decode cX47_block 338 = .ok (.lload 4, 2) := by decide +kernel
theorem dX47_block_340 : decode cX47_block 340 = .ok (.lload 6, 2) := by decide +kernel
theorem dX47_block_342 : decode cX47_block 342 = .ok (.land, 1) := by decide +kernel
theorem dX47_block_343 : decode cX47_block 343 = .ok (.lxor, 1) := by decide +kernel
theorem dX47_block_344 : decode cX47_block 344 = .ok (.ladd, 1) := by decide +kernel
theorem dX47_block_345 : decode cX47_block 345 = .ok (.lstore 21, 2) := by decide +kernel
theorem dX47_block_347 : decode cX47_block 347 = .ok (.lload 14, 2) := by decide +kernel
theorem dX47_block_349 : decode cX47_block 349 = .ok (.lstore 16, 2) := by decide +kernel
theorem dX47_block_351 : decode cX47_block 351 = .ok (.lload 12, 2) := by decide +kernel
theorem dX47_block_353 : decode cX47_block 353 = .ok (.lstore 14, 2) := by decide +kernel
theorem dX47_block_355 : decode cX47_block 355 = .ok (.lload 10, 2) := by decide +kernel
theorem dX47_block_357 : decode cX47_block 357 = .ok (.lstore 12, 2) := by decide +kernel
theorem dX47_block_359 : decode cX47_block 359 = .ok (.lload 8, 2) := by decide +kernel
theorem dX47_block_361 : decode cX47_block 361 = .ok (.lload 19, 2) := by decide +kernel
theorem dX47_block_363 : decode cX47_block 363 = .ok (.ladd, 1) := by decide +kernel
theorem dX47_block_364 : decode cX47_block 364 = .ok (.ldc2_w 206, 3) := by decide +kernel
theorem dX47_block_367 : decode cX47_block 367 = .ok (.land, 1) := by decide +kernel
theorem dX47_block_368 : decode cX47_block 368 = .ok (.lstore 10, 2) := by decide +kernel
theorem dX47_block_370 : decode cX47_block 370 = .ok (.lload 6, 2) := by decide +kernel
theorem dX47_block_372 : decode cX47_block 372 = .ok (.lstore 8, 2) := by decide +kernel
theorem dX47_block_374 : decode cX47_block 374 = .ok (.lload 4, 2) := by decide +kernel
theorem dX47_block_376 : decode cX47_block 376 = .ok (.lstore 6, 2) := by decide +kernel
theorem dX47_block_378 : decode cX47_block 378 = .ok (.lload_n 2, 1) := by decide +kernel
theorem dX47_block_379 : decode cX47_block 379 = .ok (.lstore 4, 2) := by decide +kernel
theorem dX47_block_381 : decode cX47_block 381 = .ok (.lload 19, 2) := by decide +kernel
theorem dX47_block_383 : decode cX47_block 383 = .ok (.lload 21, 2) := by decide +kernel
theorem dX47_block_385 : decode cX47_block 385 = .ok (.ladd, 1) := by decide +kernel
theorem dX47_block_386 : decode cX47_block 386 = .ok (.ldc2_w 206, 3) := by decide +kernel
theorem dX47_block_389 : decode cX47_block 389 = .ok (.land, 1) := by decide +kernel
theorem dX47_block_390 : decode cX47_block 390 = .ok (.lstore_n 2, 1) := by decide +kernel
theorem dX47_block_391 : decode cX47_block 391 = .ok (.iinc 18 1, 3) := by decide +kernel
theorem dX47_block_394 : decode cX47_block 394 = .ok (.goto (-151), 3) := by decide +kernel
theorem dX47_block_397 : decode cX47_block 397 = .ok (.aload_n 0, 1) := by decide +kernel
theorem dX47_block_398 : decode cX47_block 398 = .ok (.getfield 189, 3) := by decide +kernel
theorem dX47_block_401 : decode cX47_block 401 = .ok (.iconst 0, 1) := by decide +kernel
theorem dX47_block_402 : decode cX47_block 402 = .ok (.aload_n 0, 1) := by decide +kernel
theorem dX47_block_403 : decode cX47_block 403 = .ok (.getfield 189, 3) := by decide +kernel
theorem dX47_block_406 : decode cX47_block 406 = .ok (.iconst 0, 1) := by decide +kernel
theorem dX47_block_407 : decode cX47_block 407 = .ok (.laload, 1) := by decide +kernel
theorem dX47_block_408 : decode cX47_block 408 = .ok (.lload_n 2, 1) := by decide +kernel
theorem dX47_block_409 : decode cX47_block 409 = .ok (.ladd, 1) := by decide +kernel
theorem dX47_block_410 : decode cX47_block 410 = .ok (.ldc2_w 206, 3) := by decide +kernel
theorem dX47_block_413 : decode cX47_block 413 = .ok (.land, 1) := by decide +kernel
theorem dX47_block_414 : decode cX47_block 414 = .ok (.lastore, 1) := by decide +kernel
theorem dX47_block_415 : decode cX47_block 415 = .ok (.aload_n 0, 1) := by decide +kernel
theorem dX47_block_416 : decode cX47_block 416 = .ok (.getfield 189, 3) := by decide +kernel
theorem dX47_block_419 : decode cX47_block 419 = .ok (.iconst 1, 1) := by decide +kernel
theorem dX47_block_420 : decode cX47_block 420 = .ok (.aload_n 0, 1) := by decide +kernel
theorem dX47_block_421 : decode cX47_block 421 = .ok (.getfield 189, 3) := by decide +kernel
theorem dX47_block_424 : decode cX47_block 424 = .ok (.iconst 1, 1) := by decide +kernel
theorem dX47_block_425 : decode cX47_block 425 = .ok (.laload, 1) := by decide +kernel
theorem dX47_block_426 : decode cX47_block 426 = .ok (.lload 4, 2) := by decide +kernel
theorem dX47_block_428 : decode cX47_block 428 = .ok (.ladd, 1) := by decide +kernel
theorem dX47_block_429 : decode cX47_block 429 = .ok (.ldc2_w 206, 3) := by decide +kernel
theorem dX47_block_432 : decode cX47_block 432 = .ok (.land, 1) := by decide +kernel
theorem dX47_block_433 : decode cX47_block 433 = .ok (.lastore, 1) := by decide +kernel
theorem dX47_block_434 : decode cX47_block 434 = .ok (.aload_n 0, 1) := by decide +kernel
theorem dX47_block_435 : decode cX47_block 435 = .ok (.getfield 189, 3) := by decide +kernel
theorem dX47_block_438 : decode cX47_block 438 = .ok (.iconst 2, 1) := by decide +kernel
theorem dX47_block_439 : decode cX47_block 439 = .ok (.aload_n 0, 1) := by decide +kernel
theorem dX47_block_440 : decode cX47_block 440 = .ok (.getfield 189, 3) := by decide +kernel
theorem dX47_block_443 : decode cX47_block 443 = .ok (.iconst 2, 1) := by decide +kernel
theorem dX47_block_444 : decode cX47_block 444 = .ok (.laload, 1) := by decide +kernel
theorem dX47_block_445 : decode cX47_block 445 = .ok (.lload 6, 2) := by decide +kernel
theorem dX47_block_447 : decode cX47_block 447 = .ok (.ladd, 1) := by decide +kernel
theorem dX47_block_448 : decode cX47_block 448 = .ok (.ldc2_w 206, 3) := by decide +kernel
theorem dX47_block_451 : decode cX47_block 451 = .ok (.land, 1) := by decide +kernel
theorem dX47_block_452 : decode cX47_block 452 = .ok (.lastore, 1) := by decide +kernel
theorem dX47_block_453 : decode cX47_block 453 = .ok (.aload_n 0, 1) := by decide +kernel
theorem dX47_block_454 : decode cX47_block 454 = .ok (.getfield 189, 3) := by decide +kernel
theorem dX47_block_457 : decode cX47_block 457 = .ok (.iconst 3, 1) := by decide +kernel
theorem dX47_block_458 : decode cX47_block 458 = .ok (.aload_n 0, 1) := by decide +kernel
theorem dX47_block_459 : decode cX47_block 459 = .ok (.getfield 189, 3) := by decide +kernel
theorem dX47_block_462 : decode cX47_block 462 = .ok (.iconst 3, 1) := by decide +kernel
theorem dX47_block_463 : decode cX47_block 463 = .ok (.laload, 1) := by decide +kernel
theorem dX47_block_464 : decode cX47_block 464 = .ok (.lload 8, 2) := by decide +kernel
theorem dX47_block_466 : decode cX47_block 466 = .ok (.ladd, 1) := by decide +kernel
theorem dX47_block_467 : decode cX47_block 467 = .ok (.ldc2_w 206, 3) := by decide +kernel
theorem dX47_block_470 : decode cX47_block 470 = .ok (.land, 1) := by decide +kernel
theorem dX47_block_471 : decode cX47_block 471 = .ok (.lastore, 1) := by decide +kernel
theorem dX47_block_472 : decode cX47_block 472 = .ok (.aload_n 0, 1) := by decide +kernel
theorem dX47_block_473 : decode cX47_block 473 = .ok (.getfield 189, 3) := by decide +kernel
theorem dX47_block_476 : decode cX47_block 476 = .ok (.iconst 4, 1) := by decide +kernel
theorem dX47_block_477 : decode cX47_block 477 = .ok (.aload_n 0, 1) := by decide +kernel
theorem dX47_block_478 : decode cX47_block 478 = .ok (.getfield 189, 3) := by decide +kernel
theorem dX47_block_481 : decode cX47_block 481 = .ok (.iconst 4, 1) := by decide +kernel
theorem dX47_block_482 : decode cX47_block 482 = .ok (.laload, 1) := by decide +kernel
theorem dX47_block_483 : decode cX47_block 483 = .ok (.lload 10, 2) := by decide +kernel
theorem dX47_block_485 : decode cX47_block 485 = .ok (.ladd, 1) := by decide +kernel
theorem dX47_block_486 : decode cX47_block 486 = .ok (.ldc2_w 206, 3) := by decide +kernel
theorem dX47_block_489 : decode cX47_block 489 = .ok (.land, 1) := by decide +kernel
theorem dX47_block_490 : decode cX47_block 490 = .ok (.lastore, 1) := by decide +kernel
theorem dX47_block_491 : decode cX47_block 491 = .ok (.aload_n 0, 1) := by decide +kernel
theorem dX47_block_492 : decode cX47_block 492 = .ok (.getfield 189, 3) := by decide +kernel
theorem dX47_block_495 : decode cX47_block 495 = .ok (.iconst 5, 1) := by decide +kernel
theorem dX47_block_496 : decode cX47_block 496 = .ok (.aload_n 0, 1) := by decide +kernel
theorem dX47_block_497 : decode cX47_block 497 = .ok (.getfield 189, 3) := by decide +kernel
theorem dX47_block_500 : decode cX47_block 500 = .ok (.iconst 5, 1) := by decide +kernel
theorem dX47_block_501 : decode cX47_block 501 = .ok (.laload, 1) := by decide +kernel
theorem dX47_block_502 : decode cX47_block 502 = .ok (.lload 12, 2) := by decide +kernel
theorem dX47_block_504 : decode cX47_block 504 = .ok (.ladd, 1) := by decide +kernel
theorem dX47_block_505 : decode cX47_block 505 = .ok (.ldc2_w 206, 3) := by decide +kernel
theorem dX47_block_508 : decode cX47_block 508 = .ok (.land, 1) := by decide +kernel
theorem dX47_block_509 : decode cX47_block 509 = .ok (.lastore, 1) := by decide +kernel
theorem dX47_block_510 : decode cX47_block 510 = .ok (.aload_n 0, 1) := by decide +kernel
theorem dX47_block_511 : decode cX47_block 511 = .ok (.getfield 189, 3) := by decide +kernel
theorem dX47_block_514 : decode cX47_block 514 = .ok (.bipush 6, 2) := by decide +kernel
theorem dX47_block_516 : decode cX47_block 516 = .ok (.aload_n 0, 1) := by decide +kernel
theorem dX47_block_517 : decode cX47_block 517 = .ok (.getfield 189, 3) := by decide +kernel
theorem dX47_block_520 : decode cX47_block 520 = .ok (.bipush 6, 2) := by decide +kernel
theorem dX47_block_522 : decode cX47_block 522 = .ok (.laload, 1) := by decide +kernel
theorem dX47_block_523 : decode cX47_block 523 = .ok (.lload 14, 2) := by decide +kernel
theorem dX47_block_525 : decode cX47_block 525 = .ok (.ladd, 1) := by decide +kernel
theorem dX47_block_526 : decode cX47_block 526 = .ok (.ldc2_w 206, 3) := by decide +kernel
theorem dX47_block_529 : decode cX47_block 529 = .ok (.land, 1) := by decide +kernel
theorem dX47_block_530 : decode cX47_block 530 = .ok (.lastore, 1) := by decide +kernel
theorem dX47_block_531 : decode cX47_block 531 = .ok (.aload_n 0, 1) := by decide +kernel
theorem dX47_block_532 : decode cX47_block 532 = .ok (.getfield 189, 3) := by decide +kernel
theorem dX47_block_535 : decode cX47_block 535 = .ok (.bipush 7, 2) := by decide +kernel
theorem dX47_block_537 : decode cX47_block 537 = .ok (.aload_n 0, 1) := by decide +kernel
theorem dX47_block_538 : decode cX47_block 538 = .ok (.getfield 189, 3) := by decide +kernel
theorem dX47_block_541 : decode cX47_block 541 = .ok (.bipush 7, 2) := by decide +kernel
theorem dX47_block_543 : decode cX47_block 543 = .ok (.laload, 1) := by decide +kernel
theorem dX47_block_544 : decode cX47_block 544 = .ok (.lload 16, 2) := by decide +kernel
theorem dX47_block_546 : decode cX47_block 546 = .ok (.ladd, 1) := by decide +kernel
theorem dX47_block_547 : decode cX47_block 547 = .ok (.ldc2_w 206, 3) := by decide +kernel
theorem dX47_block_550 : decode cX47_block 550 = .ok (.land, 1) := by decide +kernel
theorem dX47_block_551 : decode cX47_block 551 = .ok (.lastore, 1) := by decide +kernel
theorem dX47_block_552 : decode cX47_block 552 = .ok (.return_, 1) := by decide +kernel
abbrev cX47_turned : ByteArray := prog_80_method_3_code
def yX47_turned : MethodName := ⟨RX47, "turned", "(JI)J"⟩
theorem dX47_turned_0 : decode cX47_turned 0 = .ok (.lload_n 0, 1) := by decide +kernel
theorem dX47_turned_1 : decode cX47_turned 1 = .ok (.iload_n 2, 1) := by decide +kernel
theorem dX47_turned_2 : decode cX47_turned 2 = .ok (.lshr, 1) := by decide +kernel
theorem dX47_turned_3 : decode cX47_turned 3 = .ok (.lload_n 0, 1) := by decide +kernel
theorem dX47_turned_4 : decode cX47_turned 4 = .ok (.bipush 32, 2) := by decide +kernel
theorem dX47_turned_6 : decode cX47_turned 6 = .ok (.iload_n 2, 1) := by decide +kernel
theorem dX47_turned_7 : decode cX47_turned 7 = .ok (.isub, 1) := by decide +kernel
theorem dX47_turned_8 : decode cX47_turned 8 = .ok (.lshl, 1) := by decide +kernel
theorem dX47_turned_9 : decode cX47_turned 9 = .ok (.lor, 1) := by decide +kernel
theorem dX47_turned_10 : decode cX47_turned 10 = .ok (.ldc2_w 206, 3) := by decide +kernel
theorem dX47_turned_13 : decode cX47_turned 13 = .ok (.land, 1) := by decide +kernel
theorem dX47_turned_14 : decode cX47_turned 14 = .ok (.lreturn, 1) := by decide +kernel
abbrev cX47_octetsOf : ByteArray := prog_80_method_6_code
def yX47_octetsOf : MethodName := ⟨RX47, "octetsOf", "()V"⟩
theorem dX47_octetsOf_0 : decode cX47_octetsOf 0 = .ok (.iconst 0, 1) := by decide +kernel
theorem dX47_octetsOf_1 : decode cX47_octetsOf 1 = .ok (.istore_n 1, 1) := by decide +kernel
theorem dX47_octetsOf_2 : decode cX47_octetsOf 2 = .ok (.iload_n 1, 1) := by decide +kernel
theorem dX47_octetsOf_3 : decode cX47_octetsOf 3 = .ok (.bipush 32, 2) := by decide +kernel
theorem dX47_octetsOf_5 : decode cX47_octetsOf 5 = .ok (.if_icmp .ge 35, 3) := by decide +kernel
theorem dX47_octetsOf_8 : decode cX47_octetsOf 8 = .ok (.aload_n 0, 1) := by decide +kernel
theorem dX47_octetsOf_9 : decode cX47_octetsOf 9 = .ok (.getfield 179, 3) := by decide +kernel
theorem dX47_octetsOf_12 : decode cX47_octetsOf 12 = .ok (.iload_n 1, 1) := by decide +kernel
theorem dX47_octetsOf_13 : decode cX47_octetsOf 13 = .ok (.aload_n 0, 1) := by decide +kernel
theorem dX47_octetsOf_14 : decode cX47_octetsOf 14 = .ok (.getfield 189, 3) := by decide +kernel
theorem dX47_octetsOf_17 : decode cX47_octetsOf 17 = .ok (.iload_n 1, 1) := by decide +kernel
theorem dX47_octetsOf_18 : decode cX47_octetsOf 18 = .ok (.iconst 4, 1) := by decide +kernel
theorem dX47_octetsOf_19 : decode cX47_octetsOf 19 = .ok (.idiv, 1) := by decide +kernel
theorem dX47_octetsOf_20 : decode cX47_octetsOf 20 = .ok (.laload, 1) := by decide +kernel
theorem dX47_octetsOf_21 : decode cX47_octetsOf 21 = .ok (.bipush 24, 2) := by decide +kernel
theorem dX47_octetsOf_23 : decode cX47_octetsOf 23 = .ok (.bipush 8, 2) := by decide +kernel
theorem dX47_octetsOf_25 : decode cX47_octetsOf 25 = .ok (.iload_n 1, 1) := by decide +kernel
theorem dX47_octetsOf_26 : decode cX47_octetsOf 26 = .ok (.iconst 4, 1) := by decide +kernel
theorem dX47_octetsOf_27 : decode cX47_octetsOf 27 = .ok (.irem, 1) := by decide +kernel
theorem dX47_octetsOf_28 : decode cX47_octetsOf 28 = .ok (.imul, 1) := by decide +kernel
theorem dX47_octetsOf_29 : decode cX47_octetsOf 29 = .ok (.isub, 1) := by decide +kernel
theorem dX47_octetsOf_30 : decode cX47_octetsOf 30 = .ok (.lshr, 1) := by decide +kernel
theorem dX47_octetsOf_31 : decode cX47_octetsOf 31 = .ok (.l2i, 1) := by decide +kernel
theorem dX47_octetsOf_32 : decode cX47_octetsOf 32 = .ok (.i2b, 1) := by decide +kernel
theorem dX47_octetsOf_33 : decode cX47_octetsOf 33 = .ok (.bastore, 1) := by decide +kernel
theorem dX47_octetsOf_34 : decode cX47_octetsOf 34 = .ok (.iinc 1 1, 3) := by decide +kernel
theorem dX47_octetsOf_37 : decode cX47_octetsOf 37 = .ok (.goto (-35), 3) := by decide +kernel
theorem dX47_octetsOf_40 : decode cX47_octetsOf 40 = .ok (.return_, 1) := by decide +kernel
abbrev cX47_keep : ByteArray := prog_80_method_39_code
def yX47_keep : MethodName := ⟨RX47, "keep", "()I"⟩
theorem dX47_keep_0 : decode cX47_keep 0 = .ok (.aload_n 0, 1) := by decide +kernel
theorem dX47_keep_1 : decode cX47_keep 1 = .ok (.iconst 0, 1) := by decide +kernel
theorem dX47_keep_2 : decode cX47_keep 2 = .ok (.putfield 1, 3) := by decide +kernel
theorem dX47_keep_5 : decode cX47_keep 5 = .ok (.aload_n 0, 1) := by decide +kernel
theorem dX47_keep_6 : decode cX47_keep 6 = .ok (.getfield 337, 3) := by decide +kernel
theorem dX47_keep_9 : decode cX47_keep 9 = .ok (.bipush 8, 2) := by decide +kernel
theorem dX47_keep_11 : decode cX47_keep 11 = .ok (.if_icmp .ne 6, 3) := by decide +kernel
theorem dX47_keep_14 : decode cX47_keep 14 = .ok (.bipush (-2), 2) := by decide +kernel
theorem dX47_keep_16 : decode cX47_keep 16 = .ok (.ireturn, 1) := by decide +kernel
theorem dX47_keep_17 : decode cX47_keep 17 = .ok (.aload_n 0, 1) := by decide +kernel
theorem dX47_keep_18 : decode cX47_keep 18 = .ok (.getfield 145, 3) := by decide +kernel
theorem dX47_keep_21 : decode cX47_keep 21 = .ok (.aload_n 0, 1) := by decide +kernel
theorem dX47_keep_22 : decode cX47_keep 22 = .ok (.getfield 337, 3) := by decide +kernel
theorem dX47_keep_25 : decode cX47_keep 25 = .ok (.aload_n 0, 1) := by decide +kernel
theorem dX47_keep_26 : decode cX47_keep 26 = .ok (.getfield 145, 3) := by decide +kernel
theorem dX47_keep_29 : decode cX47_keep 29 = .ok (.bipush 8, 2) := by decide +kernel
theorem dX47_keep_31 : decode cX47_keep 31 = .ok (.iaload, 1) := by decide +kernel
theorem dX47_keep_32 : decode cX47_keep 32 = .ok (.iastore, 1) := by decide +kernel
theorem dX47_keep_33 : decode cX47_keep 33 = .ok (.aload_n 0, 1) := by decide +kernel
theorem dX47_keep_34 : decode cX47_keep 34 = .ok (.getfield 149, 3) := by decide +kernel
theorem dX47_keep_37 : decode cX47_keep 37 = .ok (.aload_n 0, 1) := by decide +kernel
theorem dX47_keep_38 : decode cX47_keep 38 = .ok (.getfield 337, 3) := by decide +kernel
theorem dX47_keep_41 : decode cX47_keep 41 = .ok (.aload_n 0, 1) := by decide +kernel
theorem dX47_keep_42 : decode cX47_keep 42 = .ok (.getfield 149, 3) := by decide +kernel
theorem dX47_keep_45 : decode cX47_keep 45 = .ok (.bipush 8, 2) := by decide +kernel
theorem dX47_keep_47 : decode cX47_keep 47 = .ok (.iaload, 1) := by decide +kernel
theorem dX47_keep_48 : decode cX47_keep 48 = .ok (.iastore, 1) := by decide +kernel
theorem dX47_keep_49 : decode cX47_keep 49 = .ok (.iconst 0, 1) := by decide +kernel
theorem dX47_keep_50 : decode cX47_keep 50 = .ok (.istore_n 1, 1) := by decide +kernel
theorem dX47_keep_51 : decode cX47_keep 51 = .ok (.iload_n 1, 1) := by decide +kernel
theorem dX47_keep_52 : decode cX47_keep 52 = .ok (.bipush 120, 2) := by decide +kernel
theorem dX47_keep_54 : decode cX47_keep 54 = .ok (.if_icmp .ge 33, 3) := by decide +kernel
theorem dX47_keep_57 : decode cX47_keep 57 = .ok (.aload_n 0, 1) := by decide +kernel
theorem dX47_keep_58 : decode cX47_keep 58 = .ok (.getfield 152, 3) := by decide +kernel
theorem dX47_keep_61 : decode cX47_keep 61 = .ok (.bipush 120, 2) := by decide +kernel
theorem dX47_keep_63 : decode cX47_keep 63 = .ok (.aload_n 0, 1) := by decide +kernel
theorem dX47_keep_64 : decode cX47_keep 64 = .ok (.getfield 337, 3) := by decide +kernel
theorem dX47_keep_67 : decode cX47_keep 67 = .ok (.imul, 1) := by decide +kernel
theorem dX47_keep_68 : decode cX47_keep 68 = .ok (.iload_n 1, 1) := by decide +kernel
theorem dX47_keep_69 : decode cX47_keep 69 = .ok (.iadd, 1) := by decide +kernel
theorem dX47_keep_70 : decode cX47_keep 70 = .ok (.aload_n 0, 1) := by decide +kernel
theorem dX47_keep_71 : decode cX47_keep 71 = .ok (.getfield 152, 3) := by decide +kernel
theorem dX47_keep_74 : decode cX47_keep 74 = .ok (.sipush 960, 3) := by decide +kernel
theorem dX47_keep_77 : decode cX47_keep 77 = .ok (.iload_n 1, 1) := by decide +kernel
theorem dX47_keep_78 : decode cX47_keep 78 = .ok (.iadd, 1) := by decide +kernel
theorem dX47_keep_79 : decode cX47_keep 79 = .ok (.iaload, 1) := by decide +kernel
theorem dX47_keep_80 : decode cX47_keep 80 = .ok (.iastore, 1) := by decide +kernel
theorem dX47_keep_81 : decode cX47_keep 81 = .ok (.iinc 1 1, 3) := by decide +kernel
theorem dX47_keep_84 : decode cX47_keep 84 = .ok (.goto (-33), 3) := by decide +kernel
theorem dX47_keep_87 : decode cX47_keep 87 = .ok (.aload_n 0, 1) := by decide +kernel
theorem dX47_keep_88 : decode cX47_keep 88 = .ok (.dup, 1) := by decide +kernel
theorem dX47_keep_89 : decode cX47_keep 89 = .ok (.getfield 337, 3) := by decide +kernel
theorem dX47_keep_92 : decode cX47_keep 92 = .ok (.iconst 1, 1) := by decide +kernel
theorem dX47_keep_93 : decode cX47_keep 93 = .ok (.iadd, 1) := by decide +kernel
theorem dX47_keep_94 : decode cX47_keep 94 = .ok (.putfield 337, 3) := by decide +kernel
theorem dX47_keep_97 : decode cX47_keep 97 = .ok (.aload_n 0, 1) := by decide +kernel
theorem dX47_keep_98 : decode cX47_keep 98 = .ok (.getfield 145, 3) := by decide +kernel
theorem dX47_keep_101 : decode cX47_keep 101 = .ok (.bipush 8, 2) := by decide +kernel
theorem dX47_keep_103 : decode cX47_keep 103 = .ok (.iconst 0, 1) := by decide +kernel
theorem dX47_keep_104 : decode cX47_keep 104 = .ok (.iastore, 1) := by decide +kernel
theorem dX47_keep_105 : decode cX47_keep 105 = .ok (.aload_n 0, 1) := by decide +kernel
theorem dX47_keep_106 : decode cX47_keep 106 = .ok (.getfield 149, 3) := by decide +kernel
theorem dX47_keep_109 : decode cX47_keep 109 = .ok (.bipush 8, 2) := by decide +kernel
theorem dX47_keep_111 : decode cX47_keep 111 = .ok (.iconst 0, 1) := by decide +kernel
theorem dX47_keep_112 : decode cX47_keep 112 = .ok (.iastore, 1) := by decide +kernel
theorem dX47_keep_113 : decode cX47_keep 113 = .ok (.aload_n 0, 1) := by decide +kernel
theorem dX47_keep_114 : decode cX47_keep 114 = .ok (.iconst 0, 1) := by decide +kernel
theorem dX47_keep_115 : decode cX47_keep 115 = .ok (.putfield 241, 3) := by decide +kernel
theorem dX47_keep_118 : decode cX47_keep 118 = .ok (.aload_n 0, 1) := by decide +kernel
theorem dX47_keep_119 : decode cX47_keep 119 = .ok (.getfield 337, 3) := by decide +kernel
theorem dX47_keep_122 : decode cX47_keep 122 = .ok (.iconst 1, 1) := by decide +kernel
theorem dX47_keep_123 : decode cX47_keep 123 = .ok (.isub, 1) := by decide +kernel
theorem dX47_keep_124 : decode cX47_keep 124 = .ok (.ireturn, 1) := by decide +kernel
abbrev cX47_blank : ByteArray := prog_80_method_10_code
def yX47_blank : MethodName := ⟨RX47, "blank", "()I"⟩
theorem dX47_blank_0 : decode cX47_blank 0 = .ok (.aload_n 0, 1) := by decide +kernel
theorem dX47_blank_1 : decode cX47_blank 1 = .ok (.iconst 0, 1) := by decide +kernel
theorem dX47_blank_2 : decode cX47_blank 2 = .ok (.putfield 1, 3) := by decide +kernel
theorem dX47_blank_5 : decode cX47_blank 5 = .ok (.aload_n 0, 1) := by decide +kernel
theorem dX47_blank_6 : decode cX47_blank 6 = .ok (.getfield 145, 3) := by decide +kernel
theorem dX47_blank_9 : decode cX47_blank 9 = .ok (.bipush 8, 2) := by decide +kernel
theorem dX47_blank_11 : decode cX47_blank 11 = .ok (.iaload, 1) := by decide +kernel
theorem dX47_blank_12 : decode cX47_blank 12 = .ok (.bipush 8, 2) := by decide +kernel
theorem dX47_blank_14 : decode cX47_blank 14 = .ok (.if_icmp .ne 6, 3) := by decide +kernel
theorem dX47_blank_17 : decode cX47_blank 17 = .ok (.bipush (-2), 2) := by decide +kernel
theorem dX47_blank_19 : decode cX47_blank 19 = .ok (.ireturn, 1) := by decide +kernel
theorem dX47_blank_20 : decode cX47_blank 20 = .ok (.aload_n 0, 1) := by decide +kernel
theorem dX47_blank_21 : decode cX47_blank 21 = .ok (.getfield 145, 3) := by decide +kernel
theorem dX47_blank_24 : decode cX47_blank 24 = .ok (.bipush 8, 2) := by decide +kernel
theorem dX47_blank_26 : decode cX47_blank 26 = .ok (.dup2, 1) := by decide +kernel
theorem dX47_blank_27 : decode cX47_blank 27 = .ok (.iaload, 1) := by decide +kernel
theorem dX47_blank_28 : decode cX47_blank 28 = .ok (.iconst 1, 1) := by decide +kernel
theorem dX47_blank_29 : decode cX47_blank 29 = .ok (.iadd, 1) := by decide +kernel
theorem dX47_blank_30 : decode cX47_blank 30 = .ok (.iastore, 1) := by decide +kernel
theorem dX47_blank_31 : decode cX47_blank 31 = .ok (.aload_n 0, 1) := by decide +kernel
theorem dX47_blank_32 : decode cX47_blank 32 = .ok (.iconst 0, 1) := by decide +kernel
theorem dX47_blank_33 : decode cX47_blank 33 = .ok (.putfield 241, 3) := by decide +kernel
theorem dX47_blank_36 : decode cX47_blank 36 = .ok (.aload_n 0, 1) := by decide +kernel
theorem dX47_blank_37 : decode cX47_blank 37 = .ok (.getfield 145, 3) := by decide +kernel
theorem dX47_blank_40 : decode cX47_blank 40 = .ok (.bipush 8, 2) := by decide +kernel
theorem dX47_blank_42 : decode cX47_blank 42 = .ok (.iaload, 1) := by decide +kernel
theorem dX47_blank_43 : decode cX47_blank 43 = .ok (.ireturn, 1) := by decide +kernel
abbrev cX47_triple : ByteArray := prog_80_method_13_code
def yX47_triple : MethodName := ⟨RX47, "triple", "(III)I"⟩
theorem dX47_triple_0 : decode cX47_triple 0 = .ok (.aload_n 0, 1) := by decide +kernel
theorem dX47_triple_1 : decode cX47_triple 1 = .ok (.iconst 0, 1) := by decide +kernel
theorem dX47_triple_2 : decode cX47_triple 2 = .ok (.putfield 1, 3) := by decide +kernel
theorem dX47_triple_5 : decode cX47_triple 5 = .ok (.aload_n 0, 1) := by decide +kernel
theorem dX47_triple_6 : decode cX47_triple 6 = .ok (.iload_n 1, 1) := by decide +kernel
theorem dX47_triple_7 : decode cX47_triple 7 = .ok (.invokevirtual 249, 3) := by decide +kernel
theorem dX47_triple_10 : decode cX47_triple 10 = .ok (.ifCond .eq 19, 3) := by decide +kernel
theorem dX47_triple_13 : decode cX47_triple 13 = .ok (.aload_n 0, 1) := by decide +kernel
theorem dX47_triple_14 : decode cX47_triple 14 = .ok (.iload_n 2, 1) := by decide +kernel
theorem dX47_triple_15 : decode cX47_triple 15 = .ok (.invokevirtual 249, 3) := by decide +kernel
theorem dX47_triple_18 : decode cX47_triple 18 = .ok (.ifCond .eq 11, 3) := by decide +kernel
theorem dX47_triple_21 : decode cX47_triple 21 = .ok (.aload_n 0, 1) := by decide +kernel
theorem dX47_triple_22 : decode cX47_triple 22 = .ok (.iload_n 3, 1) := by decide +kernel
theorem dX47_triple_23 : decode cX47_triple 23 = .ok (.invokevirtual 249, 3) := by decide +kernel
theorem dX47_triple_26 : decode cX47_triple 26 = .ok (.ifCond .ne 5, 3) := by decide +kernel
theorem dX47_triple_29 : decode cX47_triple 29 = .ok (.iconst (-1), 1) := by decide +kernel
theorem dX47_triple_30 : decode cX47_triple 30 = .ok (.ireturn, 1) := by decide +kernel
theorem dX47_triple_31 : decode cX47_triple 31 = .ok (.aload_n 0, 1) := by decide +kernel
theorem dX47_triple_32 : decode cX47_triple 32 = .ok (.bipush 8, 2) := by decide +kernel
theorem dX47_triple_34 : decode cX47_triple 34 = .ok (.iload_n 1, 1) := by decide +kernel
theorem dX47_triple_35 : decode cX47_triple 35 = .ok (.iload_n 2, 1) := by decide +kernel
theorem dX47_triple_36 : decode cX47_triple 36 = .ok (.iload_n 3, 1) := by decide +kernel
theorem dX47_triple_37 : decode cX47_triple 37 = .ok (.invokevirtual 253, 3) := by decide +kernel
theorem dX47_triple_40 : decode cX47_triple 40 = .ok (.ifCond .lt 5, 3) := by decide +kernel
theorem dX47_triple_43 : decode cX47_triple 43 = .ok (.iconst 0, 1) := by decide +kernel
theorem dX47_triple_44 : decode cX47_triple 44 = .ok (.ireturn, 1) := by decide +kernel
theorem dX47_triple_45 : decode cX47_triple 45 = .ok (.aload_n 0, 1) := by decide +kernel
theorem dX47_triple_46 : decode cX47_triple 46 = .ok (.getfield 149, 3) := by decide +kernel
theorem dX47_triple_49 : decode cX47_triple 49 = .ok (.bipush 8, 2) := by decide +kernel
theorem dX47_triple_51 : decode cX47_triple 51 = .ok (.iaload, 1) := by decide +kernel
theorem dX47_triple_52 : decode cX47_triple 52 = .ok (.bipush 40, 2) := by decide +kernel
theorem dX47_triple_54 : decode cX47_triple 54 = .ok (.if_icmp .ne 6, 3) := by decide +kernel
theorem dX47_triple_57 : decode cX47_triple 57 = .ok (.bipush (-2), 2) := by decide +kernel
theorem dX47_triple_59 : decode cX47_triple 59 = .ok (.ireturn, 1) := by decide +kernel
theorem dX47_triple_60 : decode cX47_triple 60 = .ok (.bipush 8, 2) := by decide +kernel
theorem dX47_triple_62 : decode cX47_triple 62 = .ok (.aload_n 0, 1) := by decide +kernel
theorem dX47_triple_63 : decode cX47_triple 63 = .ok (.getfield 149, 3) := by decide +kernel
theorem dX47_triple_66 : decode cX47_triple 66 = .ok (.bipush 8, 2) := by decide +kernel
theorem dX47_triple_68 : decode cX47_triple 68 = .ok (.iaload, 1) := by decide +kernel
theorem dX47_triple_69 : decode cX47_triple 69 = .ok (.invokestatic 245, 3) := by decide +kernel
theorem dX47_triple_72 : decode cX47_triple 72 = .ok (.istore 4, 2) := by decide +kernel
theorem dX47_triple_74 : decode cX47_triple 74 = .ok (.aload_n 0, 1) := by decide +kernel
theorem dX47_triple_75 : decode cX47_triple 75 = .ok (.getfield 152, 3) := by decide +kernel
theorem dX47_triple_78 : decode cX47_triple 78 = .ok (.iload 4, 2) := by decide +kernel
theorem dX47_triple_80 : decode cX47_triple 80 = .ok (.iload_n 1, 1) := by decide +kernel
theorem dX47_triple_81 : decode cX47_triple 81 = .ok (.iastore, 1) := by decide +kernel
theorem dX47_triple_82 : decode cX47_triple 82 = .ok (.aload_n 0, 1) := by decide +kernel
theorem dX47_triple_83 : decode cX47_triple 83 = .ok (.getfield 152, 3) := by decide +kernel
theorem dX47_triple_86 : decode cX47_triple 86 = .ok (.iload 4, 2) := by decide +kernel
theorem dX47_triple_88 : decode cX47_triple 88 = .ok (.iconst 1, 1) := by decide +kernel
theorem dX47_triple_89 : decode cX47_triple 89 = .ok (.iadd, 1) := by decide +kernel
theorem dX47_triple_90 : decode cX47_triple 90 = .ok (.iload_n 2, 1) := by decide +kernel
theorem dX47_triple_91 : decode cX47_triple 91 = .ok (.iastore, 1) := by decide +kernel
theorem dX47_triple_92 : decode cX47_triple 92 = .ok (.aload_n 0, 1) := by decide +kernel
theorem dX47_triple_93 : decode cX47_triple 93 = .ok (.getfield 152, 3) := by decide +kernel
theorem dX47_triple_96 : decode cX47_triple 96 = .ok (.iload 4, 2) := by decide +kernel
theorem dX47_triple_98 : decode cX47_triple 98 = .ok (.iconst 2, 1) := by decide +kernel
theorem dX47_triple_99 : decode cX47_triple 99 = .ok (.iadd, 1) := by decide +kernel
theorem dX47_triple_100 : decode cX47_triple 100 = .ok (.iload_n 3, 1) := by decide +kernel
theorem dX47_triple_101 : decode cX47_triple 101 = .ok (.iastore, 1) := by decide +kernel
theorem dX47_triple_102 : decode cX47_triple 102 = .ok (.aload_n 0, 1) := by decide +kernel
theorem dX47_triple_103 : decode cX47_triple 103 = .ok (.getfield 149, 3) := by decide +kernel
theorem dX47_triple_106 : decode cX47_triple 106 = .ok (.bipush 8, 2) := by decide +kernel
theorem dX47_triple_108 : decode cX47_triple 108 = .ok (.dup2, 1) := by decide +kernel
theorem dX47_triple_109 : decode cX47_triple 109 = .ok (.iaload, 1) := by decide +kernel
theorem dX47_triple_110 : decode cX47_triple 110 = .ok (.iconst 1, 1) := by decide +kernel
theorem dX47_triple_111 : decode cX47_triple 111 = .ok (.iadd, 1) := by decide +kernel
theorem dX47_triple_112 : decode cX47_triple 112 = .ok (.iastore, 1) := by decide +kernel
theorem dX47_triple_113 : decode cX47_triple 113 = .ok (.aload_n 0, 1) := by decide +kernel
theorem dX47_triple_114 : decode cX47_triple 114 = .ok (.iconst 0, 1) := by decide +kernel
theorem dX47_triple_115 : decode cX47_triple 115 = .ok (.putfield 241, 3) := by decide +kernel
theorem dX47_triple_118 : decode cX47_triple 118 = .ok (.iconst 1, 1) := by decide +kernel
theorem dX47_triple_119 : decode cX47_triple 119 = .ok (.ireturn, 1) := by decide +kernel
abbrev cX47_isPoint : ByteArray := prog_80_method_11_code
def yX47_isPoint : MethodName := ⟨RX47, "isPoint", "(I)Z"⟩
theorem dX47_isPoint_0 : decode cX47_isPoint 0 = .ok (.iload_n 1, 1) := by decide +kernel
theorem dX47_isPoint_1 : decode cX47_isPoint 1 = .ok (.ifCond .le 18, 3) := by decide +kernel
theorem dX47_isPoint_4 : decode cX47_isPoint 4 = .ok (.iload_n 1, 1) := by decide +kernel
theorem dX47_isPoint_5 : decode cX47_isPoint 5 = .ok (.sipush 1000, 3) := by decide +kernel
theorem dX47_isPoint_8 : decode cX47_isPoint 8 = .ok (.if_icmp .gt 7, 3) := by decide +kernel
theorem dX47_isPoint_11 : decode cX47_isPoint 11 = .ok (.iconst 1, 1) := by decide +kernel
theorem dX47_isPoint_12 : decode cX47_isPoint 12 = .ok (.goto 28, 3) := by decide +kernel
theorem dX47_isPoint_15 : decode cX47_isPoint 15 = .ok (.iconst 0, 1) := by decide +kernel
theorem dX47_isPoint_16 : decode cX47_isPoint 16 = .ok (.goto 24, 3) := by decide +kernel
theorem dX47_isPoint_19 : decode cX47_isPoint 19 = .ok (.iload_n 1, 1) := by decide +kernel
theorem dX47_isPoint_20 : decode cX47_isPoint 20 = .ok (.ifCond .ge 19, 3) := by decide +kernel
theorem dX47_isPoint_23 : decode cX47_isPoint 23 = .ok (.iload_n 1, 1) := by decide +kernel
theorem dX47_isPoint_24 : decode cX47_isPoint 24 = .ok (.aload_n 0, 1) := by decide +kernel
theorem dX47_isPoint_25 : decode cX47_isPoint 25 = .ok (.getfield 145, 3) := by decide +kernel
theorem dX47_isPoint_28 : decode cX47_isPoint 28 = .ok (.bipush 8, 2) := by decide +kernel
theorem dX47_isPoint_30 : decode cX47_isPoint 30 = .ok (.iaload, 1) := by decide +kernel
theorem dX47_isPoint_31 : decode cX47_isPoint 31 = .ok (.ineg, 1) := by decide +kernel
theorem dX47_isPoint_32 : decode cX47_isPoint 32 = .ok (.if_icmp .lt 7, 3) := by decide +kernel
theorem dX47_isPoint_35 : decode cX47_isPoint 35 = .ok (.iconst 1, 1) := by decide +kernel
theorem dX47_isPoint_36 : decode cX47_isPoint 36 = .ok (.goto 4, 3) := by decide +kernel
theorem dX47_isPoint_39 : decode cX47_isPoint 39 = .ok (.iconst 0, 1) := by decide +kernel
theorem dX47_isPoint_40 : decode cX47_isPoint 40 = .ok (.ireturn, 1) := by decide +kernel
abbrev cX47_find : ByteArray := prog_80_method_12_code
def yX47_find : MethodName := ⟨RX47, "find", "(IIII)I"⟩
theorem dX47_find_0 : decode cX47_find 0 = .ok (.iconst 0, 1) := by decide +kernel
theorem dX47_find_1 : decode cX47_find 1 = .ok (.istore 5, 2) := by decide +kernel
theorem dX47_find_3 : decode cX47_find 3 = .ok (.iload 5, 2) := by decide +kernel
theorem dX47_find_5 : decode cX47_find 5 = .ok (.aload_n 0, 1) := by decide +kernel
theorem dX47_find_6 : decode cX47_find 6 = .ok (.getfield 149, 3) := by decide +kernel
theorem dX47_find_9 : decode cX47_find 9 = .ok (.iload_n 1, 1) := by decide +kernel
theorem dX47_find_10 : decode cX47_find 10 = .ok (.iaload, 1) := by decide +kernel
theorem dX47_find_11 : decode cX47_find 11 = .ok (.if_icmp .ge 58, 3) := by decide +kernel
theorem dX47_find_14 : decode cX47_find 14 = .ok (.iload_n 1, 1) := by decide +kernel
theorem dX47_find_15 : decode cX47_find 15 = .ok (.iload 5, 2) := by decide +kernel
theorem dX47_find_17 : decode cX47_find 17 = .ok (.invokestatic 245, 3) := by decide +kernel
theorem dX47_find_20 : decode cX47_find 20 = .ok (.istore 6, 2) := by decide +kernel
theorem dX47_find_22 : decode cX47_find 22 = .ok (.aload_n 0, 1) := by decide +kernel
theorem dX47_find_23 : decode cX47_find 23 = .ok (.getfield 152, 3) := by decide +kernel
theorem dX47_find_26 : decode cX47_find 26 = .ok (.iload 6, 2) := by decide +kernel
theorem dX47_find_28 : decode cX47_find 28 = .ok (.iaload, 1) := by decide +kernel
theorem dX47_find_29 : decode cX47_find 29 = .ok (.iload_n 2, 1) := by decide +kernel
theorem dX47_find_30 : decode cX47_find 30 = .ok (.if_icmp .ne 33, 3) := by decide +kernel
theorem dX47_find_33 : decode cX47_find 33 = .ok (.aload_n 0, 1) := by decide +kernel
theorem dX47_find_34 : decode cX47_find 34 = .ok (.getfield 152, 3) := by decide +kernel
theorem dX47_find_37 : decode cX47_find 37 = .ok (.iload 6, 2) := by decide +kernel
theorem dX47_find_39 : decode cX47_find 39 = .ok (.iconst 1, 1) := by decide +kernel
theorem dX47_find_40 : decode cX47_find 40 = .ok (.iadd, 1) := by decide +kernel
theorem dX47_find_41 : decode cX47_find 41 = .ok (.iaload, 1) := by decide +kernel
theorem dX47_find_42 : decode cX47_find 42 = .ok (.iload_n 3, 1) := by decide +kernel
theorem dX47_find_43 : decode cX47_find 43 = .ok (.if_icmp .ne 20, 3) := by decide +kernel
theorem dX47_find_46 : decode cX47_find 46 = .ok (.aload_n 0, 1) := by decide +kernel
theorem dX47_find_47 : decode cX47_find 47 = .ok (.getfield 152, 3) := by decide +kernel
theorem dX47_find_50 : decode cX47_find 50 = .ok (.iload 6, 2) := by decide +kernel
theorem dX47_find_52 : decode cX47_find 52 = .ok (.iconst 2, 1) := by decide +kernel
theorem dX47_find_53 : decode cX47_find 53 = .ok (.iadd, 1) := by decide +kernel
theorem dX47_find_54 : decode cX47_find 54 = .ok (.iaload, 1) := by decide +kernel
theorem dX47_find_55 : decode cX47_find 55 = .ok (.iload 4, 2) := by decide +kernel
theorem dX47_find_57 : decode cX47_find 57 = .ok (.if_icmp .ne 6, 3) := by decide +kernel
theorem dX47_find_60 : decode cX47_find 60 = .ok (.iload 5, 2) := by decide +kernel
theorem dX47_find_62 : decode cX47_find 62 = .ok (.ireturn, 1) := by decide +kernel
theorem dX47_find_63 : decode cX47_find 63 = .ok (.iinc 5 1, 3) := by decide +kernel
theorem dX47_find_66 : decode cX47_find 66 = .ok (.goto (-63), 3) := by decide +kernel
theorem dX47_find_69 : decode cX47_find 69 = .ok (.iconst (-1), 1) := by decide +kernel
theorem dX47_find_70 : decode cX47_find 70 = .ok (.ireturn, 1) := by decide +kernel
abbrev cX47_at : ByteArray := prog_80_method_9_code
def yX47_at : MethodName := ⟨RX47, "at", "(II)I"⟩
theorem dX47_at_0 : decode cX47_at 0 = .ok (.bipush 120, 2) := by decide +kernel
theorem dX47_at_2 : decode cX47_at 2 = .ok (.iload_n 0, 1) := by decide +kernel
theorem dX47_at_3 : decode cX47_at 3 = .ok (.imul, 1) := by decide +kernel
theorem dX47_at_4 : decode cX47_at 4 = .ok (.iconst 3, 1) := by decide +kernel
theorem dX47_at_5 : decode cX47_at 5 = .ok (.iload_n 1, 1) := by decide +kernel
theorem dX47_at_6 : decode cX47_at 6 = .ok (.imul, 1) := by decide +kernel
theorem dX47_at_7 : decode cX47_at 7 = .ok (.iadd, 1) := by decide +kernel
theorem dX47_at_8 : decode cX47_at 8 = .ok (.ireturn, 1) := by decide +kernel
abbrev cX47_name : ByteArray := prog_80_method_34_code
def yX47_name : MethodName := ⟨RX47, "name", "(J)I"⟩
theorem dX47_name_0 : decode cX47_name 0 = .ok (.aload_n 0, 1) := by decide +kernel
theorem dX47_name_1 : decode cX47_name 1 = .ok (.iconst 0, 1) := by decide +kernel
theorem dX47_name_2 : decode cX47_name 2 = .ok (.putfield 1, 3) := by decide +kernel
theorem dX47_name_5 : decode cX47_name 5 = .ok (.aload_n 0, 1) := by decide +kernel
theorem dX47_name_6 : decode cX47_name 6 = .ok (.invokevirtual 294, 3) := by decide +kernel
theorem dX47_name_9 : decode cX47_name 9 = .ok (.aload_n 0, 1) := by decide +kernel
theorem dX47_name_10 : decode cX47_name 10 = .ok (.invokevirtual 308, 3) := by decide +kernel
theorem dX47_name_13 : decode cX47_name 13 = .ok (.lload_n 1, 1) := by decide +kernel
theorem dX47_name_14 : decode cX47_name 14 = .ok (.lcmp, 1) := by decide +kernel
theorem dX47_name_15 : decode cX47_name 15 = .ok (.ifCond .le 5, 3) := by decide +kernel
theorem dX47_name_18 : decode cX47_name 18 = .ok (.iconst (-1), 1) := by decide +kernel
theorem dX47_name_19 : decode cX47_name 19 = .ok (.ireturn, 1) := by decide +kernel
theorem dX47_name_20 : decode cX47_name 20 = .ok (.aload_n 0, 1) := by decide +kernel
theorem dX47_name_21 : decode cX47_name 21 = .ok (.getfield 145, 3) := by decide +kernel
theorem dX47_name_24 : decode cX47_name 24 = .ok (.bipush 8, 2) := by decide +kernel
theorem dX47_name_26 : decode cX47_name 26 = .ok (.iaload, 1) := by decide +kernel
theorem dX47_name_27 : decode cX47_name 27 = .ok (.istore_n 3, 1) := by decide +kernel
theorem dX47_name_28 : decode cX47_name 28 = .ok (.iconst 0, 1) := by decide +kernel
theorem dX47_name_29 : decode cX47_name 29 = .ok (.istore 4, 2) := by decide +kernel
theorem dX47_name_31 : decode cX47_name 31 = .ok (.aload_n 0, 1) := by decide +kernel
theorem dX47_name_32 : decode cX47_name 32 = .ok (.iload_n 3, 1) := by decide +kernel
theorem dX47_name_33 : decode cX47_name 33 = .ok (.invokevirtual 312, 3) := by decide +kernel
theorem dX47_name_36 : decode cX47_name 36 = .ok (.iconst 1, 1) := by decide +kernel
theorem dX47_name_37 : decode cX47_name 37 = .ok (.istore 5, 2) := by decide +kernel
theorem dX47_name_39 : decode cX47_name 39 = .ok (.iload 5, 2) := by decide +kernel
theorem dX47_name_41 : decode cX47_name 41 = .ok (.ifCond .eq 75, 3) := by decide +kernel
theorem dX47_name_44 : decode cX47_name 44 = .ok (.aload_n 0, 1) := by decide +kernel
theorem dX47_name_45 : decode cX47_name 45 = .ok (.iload_n 3, 1) := by decide +kernel
theorem dX47_name_46 : decode cX47_name 46 = .ok (.invokevirtual 315, 3) := by decide +kernel
theorem dX47_name_49 : decode cX47_name 49 = .ok (.ifCond .eq 57, 3) := by decide +kernel
theorem dX47_name_52 : decode cX47_name 52 = .ok (.aload_n 0, 1) := by decide +kernel
theorem dX47_name_53 : decode cX47_name 53 = .ok (.invokevirtual 318, 3) := by decide +kernel
theorem dX47_name_56 : decode cX47_name 56 = .ok (.iload 4, 2) := by decide +kernel
theorem dX47_name_58 : decode cX47_name 58 = .ok (.ifCond .ne 7, 3) := by decide +kernel
theorem dX47_name_61 : decode cX47_name 61 = .ok (.iconst (-1), 1) := by decide +kernel
theorem dX47_name_62 : decode cX47_name 62 = .ok (.goto 7, 3) := by decide +kernel
theorem dX47_name_65 : decode cX47_name 65 = .ok (.aload_n 0, 1) := by decide +kernel
theorem dX47_name_66 : decode cX47_name 66 = .ok (.invokevirtual 321, 3) := by decide +kernel
theorem dX47_name_69 : decode cX47_name 69 = .ok (.istore 6, 2) := by decide +kernel
theorem dX47_name_71 : decode cX47_name 71 = .ok (.iload 6, 2) := by decide +kernel
theorem dX47_name_73 : decode cX47_name 73 = .ok (.ifCond .ge 8, 3) := by decide +kernel
theorem dX47_name_76 : decode cX47_name 76 = .ok (.aload_n 0, 1) := by decide +kernel
theorem dX47_name_77 : decode cX47_name 77 = .ok (.iload_n 3, 1) := by decide +kernel
theorem dX47_name_78 : decode cX47_name 78 = .ok (.invokevirtual 325, 3) := by decide +kernel
theorem dX47_name_81 : decode cX47_name 81 = .ok (.iload 6, 2) := by decide +kernel
theorem dX47_name_83 : decode cX47_name 83 = .ok (.ifCond .ge 7, 3) := by decide +kernel
theorem dX47_name_86 : decode cX47_name 86 = .ok (.iconst 1, 1) := by decide +kernel
theorem dX47_name_87 : decode cX47_name 87 = .ok (.goto 17, 3) := by decide +kernel
theorem dX47_name_90 : decode cX47_name 90 = .ok (.iload 6, 2) := by decide +kernel
theorem dX47_name_92 : decode cX47_name 92 = .ok (.ifCond .ne 10, 3) := by decide +kernel
theorem dX47_name_95 : decode cX47_name 95 = .ok (.iload 4, 2) := by decide +kernel
theorem dX47_name_97 : decode cX47_name 97 = .ok (.iconst 1, 1) := by decide +kernel
theorem dX47_name_98 : decode cX47_name 98 = .ok (.iadd, 1) := by decide +kernel
theorem dX47_name_99 : decode cX47_name 99 = .ok (.goto 5, 3) := by decide +kernel
theorem dX47_name_102 : decode cX47_name 102 = .ok (.iload 4, 2) := by decide +kernel
theorem dX47_name_104 : decode cX47_name 104 = .ok (.istore 4, 2) := by decide +kernel
theorem dX47_name_106 : decode cX47_name 106 = .ok (.aload_n 0, 1) := by decide +kernel
theorem dX47_name_107 : decode cX47_name 107 = .ok (.iload_n 3, 1) := by decide +kernel
theorem dX47_name_108 : decode cX47_name 108 = .ok (.invokevirtual 328, 3) := by decide +kernel
theorem dX47_name_111 : decode cX47_name 111 = .ok (.istore 5, 2) := by decide +kernel
theorem dX47_name_113 : decode cX47_name 113 = .ok (.goto (-74), 3) := by decide +kernel
theorem dX47_name_116 : decode cX47_name 116 = .ok (.aload_n 0, 1) := by decide +kernel
theorem dX47_name_117 : decode cX47_name 117 = .ok (.iload_n 3, 1) := by decide +kernel
theorem dX47_name_118 : decode cX47_name 118 = .ok (.putfield 331, 3) := by decide +kernel
theorem dX47_name_121 : decode cX47_name 121 = .ok (.aload_n 0, 1) := by decide +kernel
theorem dX47_name_122 : decode cX47_name 122 = .ok (.aload_n 0, 1) := by decide +kernel
theorem dX47_name_123 : decode cX47_name 123 = .ok (.getfield 149, 3) := by decide +kernel
theorem dX47_name_126 : decode cX47_name 126 = .ok (.bipush 8, 2) := by decide +kernel
theorem dX47_name_128 : decode cX47_name 128 = .ok (.iaload, 1) := by decide +kernel
theorem dX47_name_129 : decode cX47_name 129 = .ok (.putfield 334, 3) := by decide +kernel
theorem dX47_name_132 : decode cX47_name 132 = .ok (.aload_n 0, 1) := by decide +kernel
theorem dX47_name_133 : decode cX47_name 133 = .ok (.iconst 0, 1) := by decide +kernel
theorem dX47_name_134 : decode cX47_name 134 = .ok (.putfield 235, 3) := by decide +kernel
theorem dX47_name_137 : decode cX47_name 137 = .ok (.iconst 0, 1) := by decide +kernel
theorem dX47_name_138 : decode cX47_name 138 = .ok (.istore 6, 2) := by decide +kernel
theorem dX47_name_140 : decode cX47_name 140 = .ok (.iload 6, 2) := by decide +kernel
theorem dX47_name_142 : decode cX47_name 142 = .ok (.iconst 3, 1) := by decide +kernel
theorem dX47_name_143 : decode cX47_name 143 = .ok (.aload_n 0, 1) := by decide +kernel
theorem dX47_name_144 : decode cX47_name 144 = .ok (.getfield 334, 3) := by decide +kernel
theorem dX47_name_147 : decode cX47_name 147 = .ok (.imul, 1) := by decide +kernel
theorem dX47_name_148 : decode cX47_name 148 = .ok (.if_icmp .ge 21, 3) := by decide +kernel
theorem dX47_name_151 : decode cX47_name 151 = .ok (.aload_n 0, 1) := by decide +kernel
theorem dX47_name_152 : decode cX47_name 152 = .ok (.aload_n 0, 1) := by decide +kernel
theorem dX47_name_153 : decode cX47_name 153 = .ok (.getfield 176, 3) := by decide +kernel
theorem dX47_name_156 : decode cX47_name 156 = .ok (.iload 6, 2) := by decide +kernel
theorem dX47_name_158 : decode cX47_name 158 = .ok (.iaload, 1) := by decide +kernel
theorem dX47_name_159 : decode cX47_name 159 = .ok (.i2l, 1) := by decide +kernel
theorem dX47_name_160 : decode cX47_name 160 = .ok (.invokevirtual 266, 3) := by decide +kernel
theorem dX47_name_163 : decode cX47_name 163 = .ok (.iinc 6 1, 3) := by decide +kernel
theorem dX47_name_166 : decode cX47_name 166 = .ok (.goto (-26), 3) := by decide +kernel
theorem dX47_name_169 : decode cX47_name 169 = .ok (.aload_n 0, 1) := by decide +kernel
theorem dX47_name_170 : decode cX47_name 170 = .ok (.aload_n 0, 1) := by decide +kernel
theorem dX47_name_171 : decode cX47_name 171 = .ok (.getfield 235, 3) := by decide +kernel
theorem dX47_name_174 : decode cX47_name 174 = .ok (.invokevirtual 199, 3) := by decide +kernel
theorem dX47_name_177 : decode cX47_name 177 = .ok (.aload_n 0, 1) := by decide +kernel
theorem dX47_name_178 : decode cX47_name 178 = .ok (.invokevirtual 203, 3) := by decide +kernel
theorem dX47_name_181 : decode cX47_name 181 = .ok (.iload 4, 2) := by decide +kernel
theorem dX47_name_183 : decode cX47_name 183 = .ok (.ireturn, 1) := by decide +kernel
abbrev cX47_makeHashes : ByteArray := prog_80_method_20_code
def yX47_makeHashes : MethodName := ⟨RX47, "makeHashes", "()V"⟩
theorem dX47_makeHashes_0 : decode cX47_makeHashes 0 = .ok (.aload_n 0, 1) := by decide +kernel
theorem dX47_makeHashes_1 : decode cX47_makeHashes 1 = .ok (.getfield 241, 3) := by decide +kernel
theorem dX47_makeHashes_4 : decode cX47_makeHashes 4 = .ok (.ifCond .eq 4, 3) := by decide +kernel
theorem dX47_makeHashes_7 : decode cX47_makeHashes 7 = .ok (.return_, 1) := by decide +kernel
theorem dX47_makeHashes_8 : decode cX47_makeHashes 8 = .ok (.aload_n 0, 1) := by decide +kernel
theorem dX47_makeHashes_9 : decode cX47_makeHashes 9 = .ok (.getfield 145, 3) := by decide +kernel
theorem dX47_makeHashes_12 : decode cX47_makeHashes 12 = .ok (.bipush 8, 2) := by decide +kernel
theorem dX47_makeHashes_14 : decode cX47_makeHashes 14 = .ok (.iaload, 1) := by decide +kernel
theorem dX47_makeHashes_15 : decode cX47_makeHashes 15 = .ok (.istore_n 1, 1) := by decide +kernel
theorem dX47_makeHashes_16 : decode cX47_makeHashes 16 = .ok (.aload_n 0, 1) := by decide +kernel
theorem dX47_makeHashes_17 : decode cX47_makeHashes 17 = .ok (.iconst 0, 1) := by decide +kernel
theorem dX47_makeHashes_18 : decode cX47_makeHashes 18 = .ok (.invokevirtual 199, 3) := by decide +kernel
theorem dX47_makeHashes_21 : decode cX47_makeHashes 21 = .ok (.iconst 1, 1) := by decide +kernel
theorem dX47_makeHashes_22 : decode cX47_makeHashes 22 = .ok (.istore_n 2, 1) := by decide +kernel
theorem dX47_makeHashes_23 : decode cX47_makeHashes 23 = .ok (.iload_n 2, 1) := by decide +kernel
theorem dX47_makeHashes_24 : decode cX47_makeHashes 24 = .ok (.iload_n 1, 1) := by decide +kernel
theorem dX47_makeHashes_25 : decode cX47_makeHashes 25 = .ok (.if_icmp .gt 40, 3) := by decide +kernel
theorem dX47_makeHashes_28 : decode cX47_makeHashes 28 = .ok (.iconst 0, 1) := by decide +kernel
theorem dX47_makeHashes_29 : decode cX47_makeHashes 29 = .ok (.istore_n 3, 1) := by decide +kernel
theorem dX47_makeHashes_30 : decode cX47_makeHashes 30 = .ok (.iload_n 3, 1) := by decide +kernel
theorem dX47_makeHashes_31 : decode cX47_makeHashes 31 = .ok (.bipush 8, 2) := by decide +kernel
theorem dX47_makeHashes_33 : decode cX47_makeHashes 33 = .ok (.if_icmp .ge 26, 3) := by decide +kernel
theorem dX47_makeHashes_36 : decode cX47_makeHashes 36 = .ok (.aload_n 0, 1) := by decide +kernel
theorem dX47_makeHashes_37 : decode cX47_makeHashes 37 = .ok (.getfield 155, 3) := by decide +kernel
theorem dX47_makeHashes_40 : decode cX47_makeHashes 40 = .ok (.bipush 8, 2) := by decide +kernel
theorem dX47_makeHashes_42 : decode cX47_makeHashes 42 = .ok (.iload_n 2, 1) := by decide +kernel
theorem dX47_makeHashes_43 : decode cX47_makeHashes 43 = .ok (.imul, 1) := by decide +kernel
theorem dX47_makeHashes_44 : decode cX47_makeHashes 44 = .ok (.iload_n 3, 1) := by decide +kernel
theorem dX47_makeHashes_45 : decode cX47_makeHashes 45 = .ok (.iadd, 1) := by decide +kernel
theorem dX47_makeHashes_46 : decode cX47_makeHashes 46 = .ok (.aload_n 0, 1) := by decide +kernel
theorem dX47_makeHashes_47 : decode cX47_makeHashes 47 = .ok (.getfield 189, 3) := by decide +kernel
theorem dX47_makeHashes_50 : decode cX47_makeHashes 50 = .ok (.iload_n 3, 1) := by decide +kernel
theorem dX47_makeHashes_51 : decode cX47_makeHashes 51 = .ok (.laload, 1) := by decide +kernel
theorem dX47_makeHashes_52 : decode cX47_makeHashes 52 = .ok (.lastore, 1) := by decide +kernel
theorem dX47_makeHashes_53 : decode cX47_makeHashes 53 = .ok (.iinc 3 1, 3) := by decide +kernel
theorem dX47_makeHashes_56 : decode cX47_makeHashes 56 = .ok (.goto (-26), 3) := by decide +kernel
theorem dX47_makeHashes_59 : decode cX47_makeHashes 59 = .ok (.iinc 2 1, 3) := by decide +kernel
theorem dX47_makeHashes_62 : decode cX47_makeHashes 62 = .ok (.goto (-39), 3) := by decide +kernel
theorem dX47_makeHashes_65 : decode cX47_makeHashes 65 = .ok (.aload_n 0, 1) := by decide +kernel
theorem dX47_makeHashes_66 : decode cX47_makeHashes 66 = .ok (.iconst 0, 1) := by decide +kernel
theorem dX47_makeHashes_67 : decode cX47_makeHashes 67 = .ok (.putfield 278, 3) := by decide +kernel
theorem dX47_makeHashes_70 : decode cX47_makeHashes 70 = .ok (.iconst 1, 1) := by decide +kernel
theorem dX47_makeHashes_71 : decode cX47_makeHashes 71 = .ok (.istore_n 2, 1) := by decide +kernel
theorem dX47_makeHashes_72 : decode cX47_makeHashes 72 = .ok (.iload_n 2, 1) := by decide +kernel
theorem dX47_makeHashes_73 : decode cX47_makeHashes 73 = .ok (.ifCond .eq 113, 3) := by decide +kernel
theorem dX47_makeHashes_76 : decode cX47_makeHashes 76 = .ok (.iconst 1, 1) := by decide +kernel
theorem dX47_makeHashes_77 : decode cX47_makeHashes 77 = .ok (.istore_n 3, 1) := by decide +kernel
theorem dX47_makeHashes_78 : decode cX47_makeHashes 78 = .ok (.iload_n 3, 1) := by decide +kernel
theorem dX47_makeHashes_79 : decode cX47_makeHashes 79 = .ok (.iload_n 1, 1) := by decide +kernel
theorem dX47_makeHashes_80 : decode cX47_makeHashes 80 = .ok (.if_icmp .gt 14, 3) := by decide +kernel
theorem dX47_makeHashes_83 : decode cX47_makeHashes 83 = .ok (.aload_n 0, 1) := by decide +kernel
theorem dX47_makeHashes_84 : decode cX47_makeHashes 84 = .ok (.iload_n 3, 1) := by decide +kernel
theorem dX47_makeHashes_85 : decode cX47_makeHashes 85 = .ok (.invokevirtual 281, 3) := by decide +kernel
theorem dX47_makeHashes_88 : decode cX47_makeHashes 88 = .ok (.iinc 3 1, 3) := by decide +kernel
theorem dX47_makeHashes_91 : decode cX47_makeHashes 91 = .ok (.goto (-13), 3) := by decide +kernel
theorem dX47_makeHashes_94 : decode cX47_makeHashes 94 = .ok (.aload_n 0, 1) := by decide +kernel
theorem dX47_makeHashes_95 : decode cX47_makeHashes 95 = .ok (.dup, 1) := by decide +kernel
theorem dX47_makeHashes_96 : decode cX47_makeHashes 96 = .ok (.getfield 278, 3) := by decide +kernel
theorem dX47_makeHashes_99 : decode cX47_makeHashes 99 = .ok (.iconst 1, 1) := by decide +kernel
theorem dX47_makeHashes_100 : decode cX47_makeHashes 100 = .ok (.iadd, 1) := by decide +kernel
theorem dX47_makeHashes_101 : decode cX47_makeHashes 101 = .ok (.putfield 278, 3) := by decide +kernel
theorem dX47_makeHashes_104 : decode cX47_makeHashes 104 = .ok (.iload_n 1, 1) := by decide +kernel
theorem dX47_makeHashes_105 : decode cX47_makeHashes 105 = .ok (.iconst 2, 1) := by decide +kernel
theorem dX47_makeHashes_106 : decode cX47_makeHashes 106 = .ok (.if_icmp .lt 22, 3) := by decide +kernel
theorem dX47_makeHashes_109 : decode cX47_makeHashes 109 = .ok (.aload_n 0, 1) := by decide +kernel
theorem dX47_makeHashes_110 : decode cX47_makeHashes 110 = .ok (.aload_n 0, 1) := by decide +kernel
theorem dX47_makeHashes_111 : decode cX47_makeHashes 111 = .ok (.getfield 158, 3) := by decide +kernel
theorem dX47_makeHashes_114 : decode cX47_makeHashes 114 = .ok (.invokevirtual 284, 3) := by decide +kernel
theorem dX47_makeHashes_117 : decode cX47_makeHashes 117 = .ok (.aload_n 0, 1) := by decide +kernel
theorem dX47_makeHashes_118 : decode cX47_makeHashes 118 = .ok (.aload_n 0, 1) := by decide +kernel
theorem dX47_makeHashes_119 : decode cX47_makeHashes 119 = .ok (.getfield 155, 3) := by decide +kernel
theorem dX47_makeHashes_122 : decode cX47_makeHashes 122 = .ok (.invokevirtual 284, 3) := by decide +kernel
theorem dX47_makeHashes_125 : decode cX47_makeHashes 125 = .ok (.if_icmp .le 7, 3) := by decide +kernel
theorem dX47_makeHashes_128 : decode cX47_makeHashes 128 = .ok (.iconst 1, 1) := by decide +kernel
theorem dX47_makeHashes_129 : decode cX47_makeHashes 129 = .ok (.goto 4, 3) := by decide +kernel
theorem dX47_makeHashes_132 : decode cX47_makeHashes 132 = .ok (.iconst 0, 1) := by decide +kernel
theorem dX47_makeHashes_133 : decode cX47_makeHashes 133 = .ok (.istore_n 3, 1) := by decide +kernel
theorem dX47_makeHashes_134 : decode cX47_makeHashes 134 = .ok (.iconst 0, 1) := by decide +kernel
theorem dX47_makeHashes_135 : decode cX47_makeHashes 135 = .ok (.istore 4, 2) := by decide +kernel
theorem dX47_makeHashes_137 : decode cX47_makeHashes 137 = .ok (.iload 4, 2) := by decide +kernel
theorem dX47_makeHashes_139 : decode cX47_makeHashes 139 = .ok (.bipush 72, 2) := by decide +kernel
theorem dX47_makeHashes_141 : decode cX47_makeHashes 141 = .ok (.if_icmp .ge 27, 3) := by decide +kernel
theorem dX47_makeHashes_144 : decode cX47_makeHashes 144 = .ok (.iload_n 3, 1) := by decide +kernel
theorem dX47_makeHashes_145 : decode cX47_makeHashes 145 = .ok (.ifCond .eq 23, 3) := by decide +kernel
theorem dX47_makeHashes_148 : decode cX47_makeHashes 148 = .ok (.aload_n 0, 1) := by decide +kernel
theorem dX47_makeHashes_149 : decode cX47_makeHashes 149 = .ok (.getfield 155, 3) := by decide +kernel
theorem dX47_makeHashes_152 : decode cX47_makeHashes 152 = .ok (.iload 4, 2) := by decide +kernel
theorem dX47_makeHashes_154 : decode cX47_makeHashes 154 = .ok (.aload_n 0, 1) := by decide +kernel
theorem dX47_makeHashes_155 : decode cX47_makeHashes 155 = .ok (.getfield 158, 3) := by decide +kernel
theorem dX47_makeHashes_158 : decode cX47_makeHashes 158 = .ok (.iload 4, 2) := by decide +kernel
theorem dX47_makeHashes_160 : decode cX47_makeHashes 160 = .ok (.laload, 1) := by decide +kernel
theorem dX47_makeHashes_161 : decode cX47_makeHashes 161 = .ok (.lastore, 1) := by decide +kernel
theorem dX47_makeHashes_162 : decode cX47_makeHashes 162 = .ok (.iinc 4 1, 3) := by decide +kernel
theorem dX47_makeHashes_165 : decode cX47_makeHashes 165 = .ok (.goto (-28), 3) := by decide +kernel
theorem dX47_makeHashes_168 : decode cX47_makeHashes 168 = .ok (.iload_n 3, 1) := by decide +kernel
theorem dX47_makeHashes_169 : decode cX47_makeHashes 169 = .ok (.ifCond .eq 12, 3) := by decide +kernel
theorem dX47_makeHashes_172 : decode cX47_makeHashes 172 = .ok (.iload_n 1, 1) := by decide +kernel
theorem dX47_makeHashes_173 : decode cX47_makeHashes 173 = .ok (.iconst 1, 1) := by decide +kernel
theorem dX47_makeHashes_174 : decode cX47_makeHashes 174 = .ok (.if_icmp .le 7, 3) := by decide +kernel
theorem dX47_makeHashes_177 : decode cX47_makeHashes 177 = .ok (.iconst 1, 1) := by decide +kernel
theorem dX47_makeHashes_178 : decode cX47_makeHashes 178 = .ok (.goto 4, 3) := by decide +kernel
theorem dX47_makeHashes_181 : decode cX47_makeHashes 181 = .ok (.iconst 0, 1) := by decide +kernel
theorem dX47_makeHashes_182 : decode cX47_makeHashes 182 = .ok (.istore_n 2, 1) := by decide +kernel
theorem dX47_makeHashes_183 : decode cX47_makeHashes 183 = .ok (.goto (-111), 3) := by decide +kernel
theorem dX47_makeHashes_186 : decode cX47_makeHashes 186 = .ok (.aload_n 0, 1) := by decide +kernel
theorem dX47_makeHashes_187 : decode cX47_makeHashes 187 = .ok (.iload_n 1, 1) := by decide +kernel
theorem dX47_makeHashes_188 : decode cX47_makeHashes 188 = .ok (.invokevirtual 288, 3) := by decide +kernel
theorem dX47_makeHashes_191 : decode cX47_makeHashes 191 = .ok (.aload_n 0, 1) := by decide +kernel
theorem dX47_makeHashes_192 : decode cX47_makeHashes 192 = .ok (.iconst 1, 1) := by decide +kernel
theorem dX47_makeHashes_193 : decode cX47_makeHashes 193 = .ok (.putfield 241, 3) := by decide +kernel
theorem dX47_makeHashes_196 : decode cX47_makeHashes 196 = .ok (.return_, 1) := by decide +kernel
abbrev cX47_next : ByteArray := prog_80_method_17_code
def yX47_next : MethodName := ⟨RX47, "next", "(I)V"⟩
theorem dX47_next_0 : decode cX47_next 0 = .ok (.aload_n 0, 1) := by decide +kernel
theorem dX47_next_1 : decode cX47_next 1 = .ok (.iconst 0, 1) := by decide +kernel
theorem dX47_next_2 : decode cX47_next 2 = .ok (.putfield 257, 3) := by decide +kernel
theorem dX47_next_5 : decode cX47_next 5 = .ok (.iconst 0, 1) := by decide +kernel
theorem dX47_next_6 : decode cX47_next 6 = .ok (.istore_n 2, 1) := by decide +kernel
theorem dX47_next_7 : decode cX47_next 7 = .ok (.iload_n 2, 1) := by decide +kernel
theorem dX47_next_8 : decode cX47_next 8 = .ok (.aload_n 0, 1) := by decide +kernel
theorem dX47_next_9 : decode cX47_next 9 = .ok (.getfield 149, 3) := by decide +kernel
theorem dX47_next_12 : decode cX47_next 12 = .ok (.bipush 8, 2) := by decide +kernel
theorem dX47_next_14 : decode cX47_next 14 = .ok (.iaload, 1) := by decide +kernel
theorem dX47_next_15 : decode cX47_next 15 = .ok (.if_icmp .ge 59, 3) := by decide +kernel
theorem dX47_next_18 : decode cX47_next 18 = .ok (.bipush 8, 2) := by decide +kernel
theorem dX47_next_20 : decode cX47_next 20 = .ok (.iload_n 2, 1) := by decide +kernel
theorem dX47_next_21 : decode cX47_next 21 = .ok (.invokestatic 245, 3) := by decide +kernel
theorem dX47_next_24 : decode cX47_next 24 = .ok (.istore_n 3, 1) := by decide +kernel
theorem dX47_next_25 : decode cX47_next 25 = .ok (.aload_n 0, 1) := by decide +kernel
theorem dX47_next_26 : decode cX47_next 26 = .ok (.getfield 152, 3) := by decide +kernel
theorem dX47_next_29 : decode cX47_next 29 = .ok (.iload_n 3, 1) := by decide +kernel
theorem dX47_next_30 : decode cX47_next 30 = .ok (.iaload, 1) := by decide +kernel
theorem dX47_next_31 : decode cX47_next 31 = .ok (.iload_n 1, 1) := by decide +kernel
theorem dX47_next_32 : decode cX47_next 32 = .ok (.ineg, 1) := by decide +kernel
theorem dX47_next_33 : decode cX47_next 33 = .ok (.if_icmp .eq 29, 3) := by decide +kernel
theorem dX47_next_36 : decode cX47_next 36 = .ok (.aload_n 0, 1) := by decide +kernel
theorem dX47_next_37 : decode cX47_next 37 = .ok (.getfield 152, 3) := by decide +kernel
theorem dX47_next_40 : decode cX47_next 40 = .ok (.iload_n 3, 1) := by decide +kernel
theorem dX47_next_41 : decode cX47_next 41 = .ok (.iconst 1, 1) := by decide +kernel
theorem dX47_next_42 : decode cX47_next 42 = .ok (.iadd, 1) := by decide +kernel
theorem dX47_next_43 : decode cX47_next 43 = .ok (.iaload, 1) := by decide +kernel
theorem dX47_next_44 : decode cX47_next 44 = .ok (.iload_n 1, 1) := by decide +kernel
theorem dX47_next_45 : decode cX47_next 45 = .ok (.ineg, 1) := by decide +kernel
theorem dX47_next_46 : decode cX47_next 46 = .ok (.if_icmp .eq 16, 3) := by decide +kernel
theorem dX47_next_49 : decode cX47_next 49 = .ok (.aload_n 0, 1) := by decide +kernel
theorem dX47_next_50 : decode cX47_next 50 = .ok (.getfield 152, 3) := by decide +kernel
theorem dX47_next_53 : decode cX47_next 53 = .ok (.iload_n 3, 1) := by decide +kernel
theorem dX47_next_54 : decode cX47_next 54 = .ok (.iconst 2, 1) := by decide +kernel
theorem dX47_next_55 : decode cX47_next 55 = .ok (.iadd, 1) := by decide +kernel
theorem dX47_next_56 : decode cX47_next 56 = .ok (.iaload, 1) := by decide +kernel
theorem dX47_next_57 : decode cX47_next 57 = .ok (.iload_n 1, 1) := by decide +kernel
theorem dX47_next_58 : decode cX47_next 58 = .ok (.ineg, 1) := by decide +kernel
theorem dX47_next_59 : decode cX47_next 59 = .ok (.if_icmp .ne 9, 3) := by decide +kernel
theorem dX47_next_62 : decode cX47_next 62 = .ok (.aload_n 0, 1) := by decide +kernel
theorem dX47_next_63 : decode cX47_next 63 = .ok (.iload_n 1, 1) := by decide +kernel
theorem dX47_next_64 : decode cX47_next 64 = .ok (.iload_n 2, 1) := by decide +kernel
theorem dX47_next_65 : decode cX47_next 65 = .ok (.invokevirtual 262, 3) := by decide +kernel
theorem dX47_next_68 : decode cX47_next 68 = .ok (.iinc 2 1, 3) := by decide +kernel
theorem dX47_next_71 : decode cX47_next 71 = .ok (.goto (-64), 3) := by decide +kernel
theorem dX47_next_74 : decode cX47_next 74 = .ok (.aload_n 0, 1) := by decide +kernel
theorem dX47_next_75 : decode cX47_next 75 = .ok (.iconst 0, 1) := by decide +kernel
theorem dX47_next_76 : decode cX47_next 76 = .ok (.putfield 235, 3) := by decide +kernel
theorem dX47_next_79 : decode cX47_next 79 = .ok (.iconst 0, 1) := by decide +kernel
theorem dX47_next_80 : decode cX47_next 80 = .ok (.istore_n 2, 1) := by decide +kernel
theorem dX47_next_81 : decode cX47_next 81 = .ok (.iload_n 2, 1) := by decide +kernel
theorem dX47_next_82 : decode cX47_next 82 = .ok (.bipush 8, 2) := by decide +kernel
theorem dX47_next_84 : decode cX47_next 84 = .ok (.if_icmp .ge 24, 3) := by decide +kernel
theorem dX47_next_87 : decode cX47_next 87 = .ok (.aload_n 0, 1) := by decide +kernel
theorem dX47_next_88 : decode cX47_next 88 = .ok (.aload_n 0, 1) := by decide +kernel
theorem dX47_next_89 : decode cX47_next 89 = .ok (.getfield 155, 3) := by decide +kernel
theorem dX47_next_92 : decode cX47_next 92 = .ok (.bipush 8, 2) := by decide +kernel
theorem dX47_next_94 : decode cX47_next 94 = .ok (.iload_n 1, 1) := by decide +kernel
theorem dX47_next_95 : decode cX47_next 95 = .ok (.imul, 1) := by decide +kernel
theorem dX47_next_96 : decode cX47_next 96 = .ok (.iload_n 2, 1) := by decide +kernel
theorem dX47_next_97 : decode cX47_next 97 = .ok (.iadd, 1) := by decide +kernel
theorem dX47_next_98 : decode cX47_next 98 = .ok (.laload, 1) := by decide +kernel
theorem dX47_next_99 : decode cX47_next 99 = .ok (.invokevirtual 266, 3) := by decide +kernel
theorem dX47_next_102 : decode cX47_next 102 = .ok (.iinc 2 1, 3) := by decide +kernel
theorem dX47_next_105 : decode cX47_next 105 = .ok (.goto (-24), 3) := by decide +kernel
theorem dX47_next_108 : decode cX47_next 108 = .ok (.iconst 0, 1) := by decide +kernel
theorem dX47_next_109 : decode cX47_next 109 = .ok (.istore_n 2, 1) := by decide +kernel
theorem dX47_next_110 : decode cX47_next 110 = .ok (.iload_n 2, 1) := by decide +kernel
theorem dX47_next_111 : decode cX47_next 111 = .ok (.aload_n 0, 1) := by decide +kernel
theorem dX47_next_112 : decode cX47_next 112 = .ok (.getfield 257, 3) := by decide +kernel
theorem dX47_next_115 : decode cX47_next 115 = .ok (.if_icmp .ge 16, 3) := by decide +kernel
theorem dX47_next_118 : decode cX47_next 118 = .ok (.aload_n 0, 1) := by decide +kernel
theorem dX47_next_119 : decode cX47_next 119 = .ok (.getfield 195, 3) := by decide +kernel
theorem dX47_next_122 : decode cX47_next 122 = .ok (.iload_n 2, 1) := by decide +kernel
theorem dX47_next_123 : decode cX47_next 123 = .ok (.iconst 0, 1) := by decide +kernel
theorem dX47_next_124 : decode cX47_next 124 = .ok (.bastore, 1) := by decide +kernel
theorem dX47_next_125 : decode cX47_next 125 = .ok (.iinc 2 1, 3) := by decide +kernel
theorem dX47_next_128 : decode cX47_next 128 = .ok (.goto (-18), 3) := by decide +kernel
theorem dX47_next_131 : decode cX47_next 131 = .ok (.iconst 0, 1) := by decide +kernel
theorem dX47_next_132 : decode cX47_next 132 = .ok (.istore_n 2, 1) := by decide +kernel
theorem dX47_next_133 : decode cX47_next 133 = .ok (.iload_n 2, 1) := by decide +kernel
theorem dX47_next_134 : decode cX47_next 134 = .ok (.aload_n 0, 1) := by decide +kernel
theorem dX47_next_135 : decode cX47_next 135 = .ok (.getfield 257, 3) := by decide +kernel
theorem dX47_next_138 : decode cX47_next 138 = .ok (.if_icmp .ge 104, 3) := by decide +kernel
theorem dX47_next_141 : decode cX47_next 141 = .ok (.iconst (-1), 1) := by decide +kernel
theorem dX47_next_142 : decode cX47_next 142 = .ok (.istore_n 3, 1) := by decide +kernel
theorem dX47_next_143 : decode cX47_next 143 = .ok (.iconst 0, 1) := by decide +kernel
theorem dX47_next_144 : decode cX47_next 144 = .ok (.istore 4, 2) := by decide +kernel
theorem dX47_next_146 : decode cX47_next 146 = .ok (.iload 4, 2) := by decide +kernel
theorem dX47_next_148 : decode cX47_next 148 = .ok (.aload_n 0, 1) := by decide +kernel
theorem dX47_next_149 : decode cX47_next 149 = .ok (.getfield 257, 3) := by decide +kernel
theorem dX47_next_152 : decode cX47_next 152 = .ok (.if_icmp .ge 36, 3) := by decide +kernel
theorem dX47_next_155 : decode cX47_next 155 = .ok (.aload_n 0, 1) := by decide +kernel
theorem dX47_next_156 : decode cX47_next 156 = .ok (.getfield 195, 3) := by decide +kernel
theorem dX47_next_159 : decode cX47_next 159 = .ok (.iload 4, 2) := by decide +kernel
theorem dX47_next_161 : decode cX47_next 161 = .ok (.baload, 1) := by decide +kernel
theorem dX47_next_162 : decode cX47_next 162 = .ok (.ifCond .ne 20, 3) := by decide +kernel
theorem dX47_next_165 : decode cX47_next 165 = .ok (.iload_n 3, 1) := by decide +kernel
theorem dX47_next_166 : decode cX47_next 166 = .ok (.ifCond .lt 13, 3) := by decide +kernel
theorem dX47_next_169 : decode cX47_next 169 = .ok (.aload_n 0, 1) := by decide +kernel
theorem dX47_next_170 : decode cX47_next 170 = .ok (.iload 4, 2) := by decide +kernel
theorem dX47_next_172 : decode cX47_next 172 = .ok (.iload_n 3, 1) := by decide +kernel
theorem dX47_next_173 : decode cX47_next 173 = .ok (.invokevirtual 270, 3) := by decide +kernel
theorem dX47_next_176 : decode cX47_next 176 = .ok (.ifCond .eq 6, 3) := by decide +kernel
theorem dX47_next_179 : decode cX47_next 179 = .ok (.iload 4, 2) := by decide +kernel
theorem dX47_next_181 : decode cX47_next 181 = .ok (.istore_n 3, 1) := by decide +kernel
theorem dX47_next_182 : decode cX47_next 182 = .ok (.iinc 4 1, 3) := by decide +kernel
theorem dX47_next_185 : decode cX47_next 185 = .ok (.goto (-39), 3) := by decide +kernel
theorem dX47_next_188 : decode cX47_next 188 = .ok (.aload_n 0, 1) := by decide +kernel
theorem dX47_next_189 : decode cX47_next 189 = .ok (.getfield 195, 3) := by decide +kernel
theorem dX47_next_192 : decode cX47_next 192 = .ok (.iload_n 3, 1) := by decide +kernel
theorem dX47_next_193 : decode cX47_next 193 = .ok (.iconst 1, 1) := by decide +kernel
theorem dX47_next_194 : decode cX47_next 194 = .ok (.bastore, 1) := by decide +kernel
theorem dX47_next_195 : decode cX47_next 195 = .ok (.iconst 1, 1) := by decide +kernel
theorem dX47_next_196 : decode cX47_next 196 = .ok (.istore 4, 2) := by decide +kernel
theorem dX47_next_198 : decode cX47_next 198 = .ok (.iload 4, 2) := by decide +kernel
theorem dX47_next_200 : decode cX47_next 200 = .ok (.aload_n 0, 1) := by decide +kernel
theorem dX47_next_201 : decode cX47_next 201 = .ok (.getfield 183, 3) := by decide +kernel
theorem dX47_next_204 : decode cX47_next 204 = .ok (.sipush 128, 3) := by decide +kernel
theorem dX47_next_207 : decode cX47_next 207 = .ok (.iload_n 3, 1) := by decide +kernel
theorem dX47_next_208 : decode cX47_next 208 = .ok (.imul, 1) := by decide +kernel
theorem dX47_next_209 : decode cX47_next 209 = .ok (.iaload, 1) := by decide +kernel
theorem dX47_next_210 : decode cX47_next 210 = .ok (.if_icmp .gt 26, 3) := by decide +kernel
theorem dX47_next_213 : decode cX47_next 213 = .ok (.aload_n 0, 1) := by decide +kernel
theorem dX47_next_214 : decode cX47_next 214 = .ok (.aload_n 0, 1) := by decide +kernel
theorem dX47_next_215 : decode cX47_next 215 = .ok (.getfield 183, 3) := by decide +kernel
theorem dX47_next_218 : decode cX47_next 218 = .ok (.sipush 128, 3) := by decide +kernel
theorem dX47_next_221 : decode cX47_next 221 = .ok (.iload_n 3, 1) := by decide +kernel
theorem dX47_next_222 : decode cX47_next 222 = .ok (.imul, 1) := by decide +kernel
theorem dX47_next_223 : decode cX47_next 223 = .ok (.iload 4, 2) := by decide +kernel
theorem dX47_next_225 : decode cX47_next 225 = .ok (.iadd, 1) := by decide +kernel
theorem dX47_next_226 : decode cX47_next 226 = .ok (.iaload, 1) := by decide +kernel
theorem dX47_next_227 : decode cX47_next 227 = .ok (.invokevirtual 238, 3) := by decide +kernel
theorem dX47_next_230 : decode cX47_next 230 = .ok (.iinc 4 1, 3) := by decide +kernel
theorem dX47_next_233 : decode cX47_next 233 = .ok (.goto (-35), 3) := by decide +kernel
theorem dX47_next_236 : decode cX47_next 236 = .ok (.iinc 2 1, 3) := by decide +kernel
theorem dX47_next_239 : decode cX47_next 239 = .ok (.goto (-106), 3) := by decide +kernel
theorem dX47_next_242 : decode cX47_next 242 = .ok (.aload_n 0, 1) := by decide +kernel
theorem dX47_next_243 : decode cX47_next 243 = .ok (.aload_n 0, 1) := by decide +kernel
theorem dX47_next_244 : decode cX47_next 244 = .ok (.getfield 235, 3) := by decide +kernel
theorem dX47_next_247 : decode cX47_next 247 = .ok (.invokevirtual 199, 3) := by decide +kernel
theorem dX47_next_250 : decode cX47_next 250 = .ok (.iconst 0, 1) := by decide +kernel
theorem dX47_next_251 : decode cX47_next 251 = .ok (.istore_n 2, 1) := by decide +kernel
theorem dX47_next_252 : decode cX47_next 252 = .ok (.iload_n 2, 1) := by decide +kernel
theorem dX47_next_253 : decode cX47_next 253 = .ok (.bipush 8, 2) := by decide +kernel
theorem dX47_next_255 : decode cX47_next 255 = .ok (.if_icmp .ge 26, 3) := by decide +kernel
theorem dX47_next_258 : decode cX47_next 258 = .ok (.aload_n 0, 1) := by decide +kernel
theorem dX47_next_259 : decode cX47_next 259 = .ok (.getfield 158, 3) := by decide +kernel
theorem dX47_next_262 : decode cX47_next 262 = .ok (.bipush 8, 2) := by decide +kernel
theorem dX47_next_264 : decode cX47_next 264 = .ok (.iload_n 1, 1) := by decide +kernel
theorem dX47_next_265 : decode cX47_next 265 = .ok (.imul, 1) := by decide +kernel
theorem dX47_next_266 : decode cX47_next 266 = .ok (.iload_n 2, 1) := by decide +kernel
theorem dX47_next_267 : decode cX47_next 267 = .ok (.iadd, 1) := by decide +kernel
theorem dX47_next_268 : decode cX47_next 268 = .ok (.aload_n 0, 1) := by decide +kernel
theorem dX47_next_269 : decode cX47_next 269 = .ok (.getfield 189, 3) := by decide +kernel
theorem dX47_next_272 : decode cX47_next 272 = .ok (.iload_n 2, 1) := by decide +kernel
theorem dX47_next_273 : decode cX47_next 273 = .ok (.laload, 1) := by decide +kernel
theorem dX47_next_274 : decode cX47_next 274 = .ok (.lastore, 1) := by decide +kernel
theorem dX47_next_275 : decode cX47_next 275 = .ok (.iinc 2 1, 3) := by decide +kernel
theorem dX47_next_278 : decode cX47_next 278 = .ok (.goto (-26), 3) := by decide +kernel
theorem dX47_next_281 : decode cX47_next 281 = .ok (.return_, 1) := by decide +kernel
abbrev cX47_describe : ByteArray := prog_80_method_15_code
def yX47_describe : MethodName := ⟨RX47, "describe", "(II)V"⟩
theorem dX47_describe_0 : decode cX47_describe 0 = .ok (.sipush 128, 3) := by decide +kernel
theorem dX47_describe_3 : decode cX47_describe 3 = .ok (.aload_n 0, 1) := by decide +kernel
theorem dX47_describe_4 : decode cX47_describe 4 = .ok (.getfield 257, 3) := by decide +kernel
theorem dX47_describe_7 : decode cX47_describe 7 = .ok (.imul, 1) := by decide +kernel
theorem dX47_describe_8 : decode cX47_describe 8 = .ok (.istore_n 3, 1) := by decide +kernel
theorem dX47_describe_9 : decode cX47_describe 9 = .ok (.iconst 1, 1) := by decide +kernel
theorem dX47_describe_10 : decode cX47_describe 10 = .ok (.istore 4, 2) := by decide +kernel
theorem dX47_describe_12 : decode cX47_describe 12 = .ok (.iconst 0, 1) := by decide +kernel
theorem dX47_describe_13 : decode cX47_describe 13 = .ok (.istore 5, 2) := by decide +kernel
theorem dX47_describe_15 : decode cX47_describe 15 = .ok (.iload 5, 2) := by decide +kernel
theorem dX47_describe_17 : decode cX47_describe 17 = .ok (.iconst 3, 1) := by decide +kernel
theorem dX47_describe_18 : decode cX47_describe 18 = .ok (.if_icmp .ge 177, 3) := by decide +kernel
theorem dX47_describe_21 : decode cX47_describe 21 = .ok (.aload_n 0, 1) := by decide +kernel
theorem dX47_describe_22 : decode cX47_describe 22 = .ok (.getfield 152, 3) := by decide +kernel
theorem dX47_describe_25 : decode cX47_describe 25 = .ok (.bipush 8, 2) := by decide +kernel
theorem dX47_describe_27 : decode cX47_describe 27 = .ok (.iload_n 2, 1) := by decide +kernel
theorem dX47_describe_28 : decode cX47_describe 28 = .ok (.invokestatic 245, 3) := by decide +kernel
theorem dX47_describe_31 : decode cX47_describe 31 = .ok (.iload 5, 2) := by decide +kernel
theorem dX47_describe_33 : decode cX47_describe 33 = .ok (.iadd, 1) := by decide +kernel
theorem dX47_describe_34 : decode cX47_describe 34 = .ok (.iaload, 1) := by decide +kernel
theorem dX47_describe_35 : decode cX47_describe 35 = .ok (.istore 6, 2) := by decide +kernel
theorem dX47_describe_37 : decode cX47_describe 37 = .ok (.aload_n 0, 1) := by decide +kernel
theorem dX47_describe_38 : decode cX47_describe 38 = .ok (.getfield 183, 3) := by decide +kernel
theorem dX47_describe_41 : decode cX47_describe 41 = .ok (.iload_n 3, 1) := by decide +kernel
theorem dX47_describe_42 : decode cX47_describe 42 = .ok (.iload 4, 2) := by decide +kernel
theorem dX47_describe_44 : decode cX47_describe 44 = .ok (.iadd, 1) := by decide +kernel
theorem dX47_describe_45 : decode cX47_describe 45 = .ok (.iload 6, 2) := by decide +kernel
theorem dX47_describe_47 : decode cX47_describe 47 = .ok (.ifCond .le 7, 3) := by decide +kernel
theorem dX47_describe_50 : decode cX47_describe 50 = .ok (.iconst 0, 1) := by decide +kernel
theorem dX47_describe_51 : decode cX47_describe 51 = .ok (.goto 15, 3) := by decide +kernel
theorem dX47_describe_54 : decode cX47_describe 54 = .ok (.iload 6, 2) := by decide +kernel
theorem dX47_describe_56 : decode cX47_describe 56 = .ok (.ineg, 1) := by decide +kernel
theorem dX47_describe_57 : decode cX47_describe 57 = .ok (.iload_n 1, 1) := by decide +kernel
theorem dX47_describe_58 : decode cX47_describe 58 = .ok (.if_icmp .ne 7, 3) := by decide +kernel
theorem dX47_describe_61 : decode cX47_describe 61 = .ok (.iconst 1, 1) := by decide +kernel
theorem dX47_describe_62 : decode cX47_describe 62 = .ok (.goto 4, 3) := by decide +kernel
theorem dX47_describe_65 : decode cX47_describe 65 = .ok (.iconst 2, 1) := by decide +kernel
theorem dX47_describe_66 : decode cX47_describe 66 = .ok (.iastore, 1) := by decide +kernel
theorem dX47_describe_67 : decode cX47_describe 67 = .ok (.iinc 4 1, 3) := by decide +kernel
theorem dX47_describe_70 : decode cX47_describe 70 = .ok (.iconst 0, 1) := by decide +kernel
theorem dX47_describe_71 : decode cX47_describe 71 = .ok (.istore 7, 2) := by decide +kernel
theorem dX47_describe_73 : decode cX47_describe 73 = .ok (.iload 7, 2) := by decide +kernel
theorem dX47_describe_75 : decode cX47_describe 75 = .ok (.iconst 4, 1) := by decide +kernel
theorem dX47_describe_76 : decode cX47_describe 76 = .ok (.if_icmp .ge 41, 3) := by decide +kernel
theorem dX47_describe_79 : decode cX47_describe 79 = .ok (.iload 6, 2) := by decide +kernel
theorem dX47_describe_81 : decode cX47_describe 81 = .ok (.ifCond .le 36, 3) := by decide +kernel
theorem dX47_describe_84 : decode cX47_describe 84 = .ok (.aload_n 0, 1) := by decide +kernel
theorem dX47_describe_85 : decode cX47_describe 85 = .ok (.getfield 183, 3) := by decide +kernel
theorem dX47_describe_88 : decode cX47_describe 88 = .ok (.iload_n 3, 1) := by decide +kernel
theorem dX47_describe_89 : decode cX47_describe 89 = .ok (.iload 4, 2) := by decide +kernel
theorem dX47_describe_91 : decode cX47_describe 91 = .ok (.iadd, 1) := by decide +kernel
theorem dX47_describe_92 : decode cX47_describe 92 = .ok (.iload 6, 2) := by decide +kernel
theorem dX47_describe_94 : decode cX47_describe 94 = .ok (.bipush 24, 2) := by decide +kernel
theorem dX47_describe_96 : decode cX47_describe 96 = .ok (.bipush 8, 2) := by decide +kernel
theorem dX47_describe_98 : decode cX47_describe 98 = .ok (.iload 7, 2) := by decide +kernel
theorem dX47_describe_100 : decode cX47_describe 100 = .ok (.imul, 1) := by decide +kernel
theorem dX47_describe_101 : decode cX47_describe 101 = .ok (.isub, 1) := by decide +kernel
theorem dX47_describe_102 : decode cX47_describe 102 = .ok (.ishr, 1) := by decide +kernel
theorem dX47_describe_103 : decode cX47_describe 103 = .ok (.sipush 255, 3) := by decide +kernel
theorem dX47_describe_106 : decode cX47_describe 106 = .ok (.iand, 1) := by decide +kernel
theorem dX47_describe_107 : decode cX47_describe 107 = .ok (.iastore, 1) := by decide +kernel
theorem dX47_describe_108 : decode cX47_describe 108 = .ok (.iinc 4 1, 3) := by decide +kernel
theorem dX47_describe_111 : decode cX47_describe 111 = .ok (.iinc 7 1, 3) := by decide +kernel
theorem dX47_describe_114 : decode cX47_describe 114 = .ok (.goto (-41), 3) := by decide +kernel
theorem dX47_describe_117 : decode cX47_describe 117 = .ok (.iconst 0, 1) := by decide +kernel
theorem dX47_describe_118 : decode cX47_describe 118 = .ok (.istore 7, 2) := by decide +kernel
theorem dX47_describe_120 : decode cX47_describe 120 = .ok (.iload 7, 2) := by decide +kernel
theorem dX47_describe_122 : decode cX47_describe 122 = .ok (.bipush 32, 2) := by decide +kernel
theorem dX47_describe_124 : decode cX47_describe 124 = .ok (.if_icmp .ge 65, 3) := by decide +kernel
theorem dX47_describe_127 : decode cX47_describe 127 = .ok (.iload 6, 2) := by decide +kernel
theorem dX47_describe_129 : decode cX47_describe 129 = .ok (.ifCond .ge 60, 3) := by decide +kernel
theorem dX47_describe_132 : decode cX47_describe 132 = .ok (.iload 6, 2) := by decide +kernel
theorem dX47_describe_134 : decode cX47_describe 134 = .ok (.ineg, 1) := by decide +kernel
theorem dX47_describe_135 : decode cX47_describe 135 = .ok (.iload_n 1, 1) := by decide +kernel
theorem dX47_describe_136 : decode cX47_describe 136 = .ok (.if_icmp .eq 53, 3) := by decide +kernel
theorem dX47_describe_139 : decode cX47_describe 139 = .ok (.aload_n 0, 1) := by decide +kernel
theorem dX47_describe_140 : decode cX47_describe 140 = .ok (.getfield 183, 3) := by decide +kernel
theorem dX47_describe_143 : decode cX47_describe 143 = .ok (.iload_n 3, 1) := by decide +kernel
theorem dX47_describe_144 : decode cX47_describe 144 = .ok (.iload 4, 2) := by decide +kernel
theorem dX47_describe_146 : decode cX47_describe 146 = .ok (.iadd, 1) := by decide +kernel
theorem dX47_describe_147 : decode cX47_describe 147 = .ok (.aload_n 0, 1) := by decide +kernel
theorem dX47_describe_148 : decode cX47_describe 148 = .ok (.getfield 155, 3) := by decide +kernel
theorem dX47_describe_151 : decode cX47_describe 151 = .ok (.bipush 8, 2) := by decide +kernel
theorem dX47_describe_153 : decode cX47_describe 153 = .ok (.iload 6, 2) := by decide +kernel
theorem dX47_describe_155 : decode cX47_describe 155 = .ok (.ineg, 1) := by decide +kernel
theorem dX47_describe_156 : decode cX47_describe 156 = .ok (.imul, 1) := by decide +kernel
theorem dX47_describe_157 : decode cX47_describe 157 = .ok (.iload 7, 2) := by decide +kernel
theorem dX47_describe_159 : decode cX47_describe 159 = .ok (.iconst 4, 1) := by decide +kernel
theorem dX47_describe_160 : decode cX47_describe 160 = .ok (.idiv, 1) := by decide +kernel
theorem dX47_describe_161 : decode cX47_describe 161 = .ok (.iadd, 1) := by decide +kernel
theorem dX47_describe_162 : decode cX47_describe 162 = .ok (.laload, 1) := by decide +kernel
theorem dX47_describe_163 : decode cX47_describe 163 = .ok (.bipush 24, 2) := by decide +kernel
theorem dX47_describe_165 : decode cX47_describe 165 = .ok (.bipush 8, 2) := by decide +kernel
theorem dX47_describe_167 : decode cX47_describe 167 = .ok (.iload 7, 2) := by decide +kernel
theorem dX47_describe_169 : decode cX47_describe 169 = .ok (.iconst 4, 1) := by decide +kernel
theorem dX47_describe_170 : decode cX47_describe 170 = .ok (.irem, 1) := by decide +kernel
theorem dX47_describe_171 : decode cX47_describe 171 = .ok (.imul, 1) := by decide +kernel
theorem dX47_describe_172 : decode cX47_describe 172 = .ok (.isub, 1) := by decide +kernel
theorem dX47_describe_173 : decode cX47_describe 173 = .ok (.lshr, 1) := by decide +kernel
theorem dX47_describe_174 : decode cX47_describe 174 = .ok (.ldc2_w 260, 3) := by decide +kernel
theorem dX47_describe_177 : decode cX47_describe 177 = .ok (.land, 1) := by decide +kernel
theorem dX47_describe_178 : decode cX47_describe 178 = .ok (.l2i, 1) := by decide +kernel
theorem dX47_describe_179 : decode cX47_describe 179 = .ok (.iastore, 1) := by decide +kernel
theorem dX47_describe_180 : decode cX47_describe 180 = .ok (.iinc 4 1, 3) := by decide +kernel
theorem dX47_describe_183 : decode cX47_describe 183 = .ok (.iinc 7 1, 3) := by decide +kernel
theorem dX47_describe_186 : decode cX47_describe 186 = .ok (.goto (-66), 3) := by decide +kernel
theorem dX47_describe_189 : decode cX47_describe 189 = .ok (.iinc 5 1, 3) := by decide +kernel
theorem dX47_describe_192 : decode cX47_describe 192 = .ok (.goto (-177), 3) := by decide +kernel
theorem dX47_describe_195 : decode cX47_describe 195 = .ok (.aload_n 0, 1) := by decide +kernel
theorem dX47_describe_196 : decode cX47_describe 196 = .ok (.getfield 183, 3) := by decide +kernel
theorem dX47_describe_199 : decode cX47_describe 199 = .ok (.iload_n 3, 1) := by decide +kernel
theorem dX47_describe_200 : decode cX47_describe 200 = .ok (.iload 4, 2) := by decide +kernel
theorem dX47_describe_202 : decode cX47_describe 202 = .ok (.iconst 1, 1) := by decide +kernel
theorem dX47_describe_203 : decode cX47_describe 203 = .ok (.isub, 1) := by decide +kernel
theorem dX47_describe_204 : decode cX47_describe 204 = .ok (.iastore, 1) := by decide +kernel
theorem dX47_describe_205 : decode cX47_describe 205 = .ok (.aload_n 0, 1) := by decide +kernel
theorem dX47_describe_206 : decode cX47_describe 206 = .ok (.dup, 1) := by decide +kernel
theorem dX47_describe_207 : decode cX47_describe 207 = .ok (.getfield 257, 3) := by decide +kernel
theorem dX47_describe_210 : decode cX47_describe 210 = .ok (.iconst 1, 1) := by decide +kernel
theorem dX47_describe_211 : decode cX47_describe 211 = .ok (.iadd, 1) := by decide +kernel
theorem dX47_describe_212 : decode cX47_describe 212 = .ok (.putfield 257, 3) := by decide +kernel
theorem dX47_describe_215 : decode cX47_describe 215 = .ok (.return_, 1) := by decide +kernel
abbrev cX47_sayNumber : ByteArray := prog_80_method_8_code
def yX47_sayNumber : MethodName := ⟨RX47, "sayNumber", "(J)V"⟩
theorem dX47_sayNumber_0 : decode cX47_sayNumber 0 = .ok (.iconst 3, 1) := by decide +kernel
theorem dX47_sayNumber_1 : decode cX47_sayNumber 1 = .ok (.istore_n 3, 1) := by decide +kernel
theorem dX47_sayNumber_2 : decode cX47_sayNumber 2 = .ok (.iload_n 3, 1) := by decide +kernel
theorem dX47_sayNumber_3 : decode cX47_sayNumber 3 = .ok (.ifCond .lt 20, 3) := by decide +kernel
theorem dX47_sayNumber_6 : decode cX47_sayNumber 6 = .ok (.aload_n 0, 1) := by decide +kernel
theorem dX47_sayNumber_7 : decode cX47_sayNumber 7 = .ok (.lload_n 1, 1) := by decide +kernel
theorem dX47_sayNumber_8 : decode cX47_sayNumber 8 = .ok (.bipush 8, 2) := by decide +kernel
theorem dX47_sayNumber_10 : decode cX47_sayNumber 10 = .ok (.iload_n 3, 1) := by decide +kernel
theorem dX47_sayNumber_11 : decode cX47_sayNumber 11 = .ok (.imul, 1) := by decide +kernel
theorem dX47_sayNumber_12 : decode cX47_sayNumber 12 = .ok (.lshr, 1) := by decide +kernel
theorem dX47_sayNumber_13 : decode cX47_sayNumber 13 = .ok (.l2i, 1) := by decide +kernel
theorem dX47_sayNumber_14 : decode cX47_sayNumber 14 = .ok (.invokevirtual 238, 3) := by decide +kernel
theorem dX47_sayNumber_17 : decode cX47_sayNumber 17 = .ok (.iinc 3 (-1), 3) := by decide +kernel
theorem dX47_sayNumber_20 : decode cX47_sayNumber 20 = .ok (.goto (-18), 3) := by decide +kernel
theorem dX47_sayNumber_23 : decode cX47_sayNumber 23 = .ok (.return_, 1) := by decide +kernel
abbrev cX47_say : ByteArray := prog_80_method_7_code
def yX47_say : MethodName := ⟨RX47, "say", "(I)V"⟩
theorem dX47_say_0 : decode cX47_say 0 = .ok (.aload_n 0, 1) := by decide +kernel
theorem dX47_say_1 : decode cX47_say 1 = .ok (.getfield 186, 3) := by decide +kernel
theorem dX47_say_4 : decode cX47_say 4 = .ok (.aload_n 0, 1) := by decide +kernel
theorem dX47_say_5 : decode cX47_say 5 = .ok (.getfield 235, 3) := by decide +kernel
theorem dX47_say_8 : decode cX47_say 8 = .ok (.iload_n 1, 1) := by decide +kernel
theorem dX47_say_9 : decode cX47_say 9 = .ok (.i2b, 1) := by decide +kernel
theorem dX47_say_10 : decode cX47_say 10 = .ok (.bastore, 1) := by decide +kernel
theorem dX47_say_11 : decode cX47_say 11 = .ok (.aload_n 0, 1) := by decide +kernel
theorem dX47_say_12 : decode cX47_say 12 = .ok (.dup, 1) := by decide +kernel
theorem dX47_say_13 : decode cX47_say 13 = .ok (.getfield 235, 3) := by decide +kernel
theorem dX47_say_16 : decode cX47_say 16 = .ok (.iconst 1, 1) := by decide +kernel
theorem dX47_say_17 : decode cX47_say 17 = .ok (.iadd, 1) := by decide +kernel
theorem dX47_say_18 : decode cX47_say 18 = .ok (.putfield 235, 3) := by decide +kernel
theorem dX47_say_21 : decode cX47_say 21 = .ok (.return_, 1) := by decide +kernel
abbrev cX47_isBefore : ByteArray := prog_80_method_16_code
def yX47_isBefore : MethodName := ⟨RX47, "isBefore", "(II)Z"⟩
theorem dX47_isBefore_0 : decode cX47_isBefore 0 = .ok (.aload_n 0, 1) := by decide +kernel
theorem dX47_isBefore_1 : decode cX47_isBefore 1 = .ok (.getfield 183, 3) := by decide +kernel
theorem dX47_isBefore_4 : decode cX47_isBefore 4 = .ok (.sipush 128, 3) := by decide +kernel
theorem dX47_isBefore_7 : decode cX47_isBefore 7 = .ok (.iload_n 1, 1) := by decide +kernel
theorem dX47_isBefore_8 : decode cX47_isBefore 8 = .ok (.imul, 1) := by decide +kernel
theorem dX47_isBefore_9 : decode cX47_isBefore 9 = .ok (.iaload, 1) := by decide +kernel
theorem dX47_isBefore_10 : decode cX47_isBefore 10 = .ok (.istore_n 3, 1) := by decide +kernel
theorem dX47_isBefore_11 : decode cX47_isBefore 11 = .ok (.aload_n 0, 1) := by decide +kernel
theorem dX47_isBefore_12 : decode cX47_isBefore 12 = .ok (.getfield 183, 3) := by decide +kernel
theorem dX47_isBefore_15 : decode cX47_isBefore 15 = .ok (.sipush 128, 3) := by decide +kernel
theorem dX47_isBefore_18 : decode cX47_isBefore 18 = .ok (.iload_n 2, 1) := by decide +kernel
theorem dX47_isBefore_19 : decode cX47_isBefore 19 = .ok (.imul, 1) := by decide +kernel
theorem dX47_isBefore_20 : decode cX47_isBefore 20 = .ok (.iaload, 1) := by decide +kernel
theorem dX47_isBefore_21 : decode cX47_isBefore 21 = .ok (.istore 4, 2) := by decide +kernel
theorem dX47_isBefore_23 : decode cX47_isBefore 23 = .ok (.iconst 1, 1) := by decide +kernel
theorem dX47_isBefore_24 : decode cX47_isBefore 24 = .ok (.istore 5, 2) := by decide +kernel
theorem dX47_isBefore_26 : decode cX47_isBefore 26 = .ok (.iload 5, 2) := by decide +kernel
theorem dX47_isBefore_28 : decode cX47_isBefore 28 = .ok (.iload_n 3, 1) := by decide +kernel
theorem dX47_isBefore_29 : decode cX47_isBefore 29 = .ok (.if_icmp .gt 66, 3) := by decide +kernel
theorem dX47_isBefore_32 : decode cX47_isBefore 32 = .ok (.iload 5, 2) := by decide +kernel
theorem dX47_isBefore_34 : decode cX47_isBefore 34 = .ok (.iload 4, 2) := by decide +kernel
theorem dX47_isBefore_36 : decode cX47_isBefore 36 = .ok (.if_icmp .gt 59, 3) := by decide +kernel
theorem dX47_isBefore_39 : decode cX47_isBefore 39 = .ok (.aload_n 0, 1) := by decide +kernel
theorem dX47_isBefore_40 : decode cX47_isBefore 40 = .ok (.getfield 183, 3) := by decide +kernel
theorem dX47_isBefore_43 : decode cX47_isBefore 43 = .ok (.sipush 128, 3) := by decide +kernel
theorem dX47_isBefore_46 : decode cX47_isBefore 46 = .ok (.iload_n 1, 1) := by decide +kernel
theorem dX47_isBefore_47 : decode cX47_isBefore 47 = .ok (.imul, 1) := by decide +kernel
theorem dX47_isBefore_48 : decode cX47_isBefore 48 = .ok (.iload 5, 2) := by decide +kernel
theorem dX47_isBefore_50 : decode cX47_isBefore 50 = .ok (.iadd, 1) := by decide +kernel
theorem dX47_isBefore_51 : decode cX47_isBefore 51 = .ok (.iaload, 1) := by decide +kernel
theorem dX47_isBefore_52 : decode cX47_isBefore 52 = .ok (.istore 6, 2) := by decide +kernel
theorem dX47_isBefore_54 : decode cX47_isBefore 54 = .ok (.aload_n 0, 1) := by decide +kernel
theorem dX47_isBefore_55 : decode cX47_isBefore 55 = .ok (.getfield 183, 3) := by decide +kernel
theorem dX47_isBefore_58 : decode cX47_isBefore 58 = .ok (.sipush 128, 3) := by decide +kernel
theorem dX47_isBefore_61 : decode cX47_isBefore 61 = .ok (.iload_n 2, 1) := by decide +kernel
theorem dX47_isBefore_62 : decode cX47_isBefore 62 = .ok (.imul, 1) := by decide +kernel
theorem dX47_isBefore_63 : decode cX47_isBefore 63 = .ok (.iload 5, 2) := by decide +kernel
theorem dX47_isBefore_65 : decode cX47_isBefore 65 = .ok (.iadd, 1) := by decide +kernel
theorem dX47_isBefore_66 : decode cX47_isBefore 66 = .ok (.iaload, 1) := by decide +kernel
theorem dX47_isBefore_67 : decode cX47_isBefore 67 = .ok (.istore 7, 2) := by decide +kernel
theorem dX47_isBefore_69 : decode cX47_isBefore 69 = .ok (.iload 6, 2) := by decide +kernel
theorem dX47_isBefore_71 : decode cX47_isBefore 71 = .ok (.iload 7, 2) := by decide +kernel
theorem dX47_isBefore_73 : decode cX47_isBefore 73 = .ok (.if_icmp .eq 16, 3) := by decide +kernel
theorem dX47_isBefore_76 : decode cX47_isBefore 76 = .ok (.iload 6, 2) := by decide +kernel
theorem dX47_isBefore_78 : decode cX47_isBefore 78 = .ok (.iload 7, 2) := by decide +kernel
theorem dX47_isBefore_80 : decode cX47_isBefore 80 = .ok (.if_icmp .ge 7, 3) := by decide +kernel
theorem dX47_isBefore_83 : decode cX47_isBefore 83 = .ok (.iconst 1, 1) := by decide +kernel
theorem dX47_isBefore_84 : decode cX47_isBefore 84 = .ok (.goto 4, 3) := by decide +kernel
theorem dX47_isBefore_87 : decode cX47_isBefore 87 = .ok (.iconst 0, 1) := by decide +kernel
theorem dX47_isBefore_88 : decode cX47_isBefore 88 = .ok (.ireturn, 1) := by decide +kernel
theorem dX47_isBefore_89 : decode cX47_isBefore 89 = .ok (.iinc 5 1, 3) := by decide +kernel
theorem dX47_isBefore_92 : decode cX47_isBefore 92 = .ok (.goto (-66), 3) := by decide +kernel
theorem dX47_isBefore_95 : decode cX47_isBefore 95 = .ok (.iload_n 3, 1) := by decide +kernel
theorem dX47_isBefore_96 : decode cX47_isBefore 96 = .ok (.iload 4, 2) := by decide +kernel
theorem dX47_isBefore_98 : decode cX47_isBefore 98 = .ok (.if_icmp .ge 7, 3) := by decide +kernel
theorem dX47_isBefore_101 : decode cX47_isBefore 101 = .ok (.iconst 1, 1) := by decide +kernel
theorem dX47_isBefore_102 : decode cX47_isBefore 102 = .ok (.goto 4, 3) := by decide +kernel
theorem dX47_isBefore_105 : decode cX47_isBefore 105 = .ok (.iconst 0, 1) := by decide +kernel
theorem dX47_isBefore_106 : decode cX47_isBefore 106 = .ok (.ireturn, 1) := by decide +kernel
abbrev cX47_different : ByteArray := prog_80_method_19_code
def yX47_different : MethodName := ⟨RX47, "different", "([J)I"⟩
theorem dX47_different_0 : decode cX47_different 0 = .ok (.iconst 0, 1) := by decide +kernel
theorem dX47_different_1 : decode cX47_different 1 = .ok (.istore_n 2, 1) := by decide +kernel
theorem dX47_different_2 : decode cX47_different 2 = .ok (.iconst 1, 1) := by decide +kernel
theorem dX47_different_3 : decode cX47_different 3 = .ok (.istore_n 3, 1) := by decide +kernel
theorem dX47_different_4 : decode cX47_different 4 = .ok (.iload_n 3, 1) := by decide +kernel
theorem dX47_different_5 : decode cX47_different 5 = .ok (.aload_n 0, 1) := by decide +kernel
theorem dX47_different_6 : decode cX47_different 6 = .ok (.getfield 145, 3) := by decide +kernel
theorem dX47_different_9 : decode cX47_different 9 = .ok (.bipush 8, 2) := by decide +kernel
theorem dX47_different_11 : decode cX47_different 11 = .ok (.iaload, 1) := by decide +kernel
theorem dX47_different_12 : decode cX47_different 12 = .ok (.if_icmp .gt 62, 3) := by decide +kernel
theorem dX47_different_15 : decode cX47_different 15 = .ok (.iconst 1, 1) := by decide +kernel
theorem dX47_different_16 : decode cX47_different 16 = .ok (.istore 4, 2) := by decide +kernel
theorem dX47_different_18 : decode cX47_different 18 = .ok (.iconst 1, 1) := by decide +kernel
theorem dX47_different_19 : decode cX47_different 19 = .ok (.istore 5, 2) := by decide +kernel
theorem dX47_different_21 : decode cX47_different 21 = .ok (.iload 5, 2) := by decide +kernel
theorem dX47_different_23 : decode cX47_different 23 = .ok (.iload_n 3, 1) := by decide +kernel
theorem dX47_different_24 : decode cX47_different 24 = .ok (.if_icmp .ge 31, 3) := by decide +kernel
theorem dX47_different_27 : decode cX47_different 27 = .ok (.iload 4, 2) := by decide +kernel
theorem dX47_different_29 : decode cX47_different 29 = .ok (.ifCond .eq 17, 3) := by decide +kernel
theorem dX47_different_32 : decode cX47_different 32 = .ok (.aload_n 1, 1) := by decide +kernel
theorem dX47_different_33 : decode cX47_different 33 = .ok (.iload_n 3, 1) := by decide +kernel
theorem dX47_different_34 : decode cX47_different 34 = .ok (.iload 5, 2) := by decide +kernel
theorem dX47_different_36 : decode cX47_different 36 = .ok (.invokestatic 274, 3) := by decide +kernel
theorem dX47_different_39 : decode cX47_different 39 = .ok (.ifCond .eq 7, 3) := by decide +kernel
theorem dX47_different_42 : decode cX47_different 42 = .ok (.iconst 1, 1) := by decide +kernel
theorem dX47_different_43 : decode cX47_different 43 = .ok (.goto 4, 3) := by decide +kernel
theorem dX47_different_46 : decode cX47_different 46 = .ok (.iconst 0, 1) := by decide +kernel
theorem dX47_different_47 : decode cX47_different 47 = .ok (.istore 4, 2) := by decide +kernel
theorem dX47_different_49 : decode cX47_different 49 = .ok (.iinc 5 1, 3) := by decide +kernel
theorem dX47_different_52 : decode cX47_different 52 = .ok (.goto (-31), 3) := by decide +kernel
theorem dX47_different_55 : decode cX47_different 55 = .ok (.iload_n 2, 1) := by decide +kernel
theorem dX47_different_56 : decode cX47_different 56 = .ok (.iload 4, 2) := by decide +kernel
theorem dX47_different_58 : decode cX47_different 58 = .ok (.ifCond .eq 7, 3) := by decide +kernel
theorem dX47_different_61 : decode cX47_different 61 = .ok (.iconst 1, 1) := by decide +kernel
theorem dX47_different_62 : decode cX47_different 62 = .ok (.goto 4, 3) := by decide +kernel
theorem dX47_different_65 : decode cX47_different 65 = .ok (.iconst 0, 1) := by decide +kernel
theorem dX47_different_66 : decode cX47_different 66 = .ok (.iadd, 1) := by decide +kernel
theorem dX47_different_67 : decode cX47_different 67 = .ok (.istore_n 2, 1) := by decide +kernel
theorem dX47_different_68 : decode cX47_different 68 = .ok (.iinc 3 1, 3) := by decide +kernel
theorem dX47_different_71 : decode cX47_different 71 = .ok (.goto (-67), 3) := by decide +kernel
theorem dX47_different_74 : decode cX47_different 74 = .ok (.iload_n 2, 1) := by decide +kernel
theorem dX47_different_75 : decode cX47_different 75 = .ok (.ireturn, 1) := by decide +kernel
abbrev cX47_compare : ByteArray := prog_80_method_18_code
def yX47_compare : MethodName := ⟨RX47, "compare", "([JII)I"⟩
theorem dX47_compare_0 : decode cX47_compare 0 = .ok (.iconst 0, 1) := by decide +kernel
theorem dX47_compare_1 : decode cX47_compare 1 = .ok (.istore_n 3, 1) := by decide +kernel
theorem dX47_compare_2 : decode cX47_compare 2 = .ok (.iload_n 3, 1) := by decide +kernel
theorem dX47_compare_3 : decode cX47_compare 3 = .ok (.bipush 8, 2) := by decide +kernel
theorem dX47_compare_5 : decode cX47_compare 5 = .ok (.if_icmp .ge 55, 3) := by decide +kernel
theorem dX47_compare_8 : decode cX47_compare 8 = .ok (.aload_n 0, 1) := by decide +kernel
theorem dX47_compare_9 : decode cX47_compare 9 = .ok (.bipush 8, 2) := by decide +kernel
theorem dX47_compare_11 : decode cX47_compare 11 = .ok (.iload_n 1, 1) := by decide +kernel
theorem dX47_compare_12 : decode cX47_compare 12 = .ok (.imul, 1) := by decide +kernel
theorem dX47_compare_13 : decode cX47_compare 13 = .ok (.iload_n 3, 1) := by decide +kernel
theorem dX47_compare_14 : decode cX47_compare 14 = .ok (.iadd, 1) := by decide +kernel
theorem dX47_compare_15 : decode cX47_compare 15 = .ok (.laload, 1) := by decide +kernel
theorem dX47_compare_16 : decode cX47_compare 16 = .ok (.aload_n 0, 1) := by decide +kernel
theorem dX47_compare_17 : decode cX47_compare 17 = .ok (.bipush 8, 2) := by decide +kernel
theorem dX47_compare_19 : decode cX47_compare 19 = .ok (.iload_n 2, 1) := by decide +kernel
theorem dX47_compare_20 : decode cX47_compare 20 = .ok (.imul, 1) := by decide +kernel
theorem dX47_compare_21 : decode cX47_compare 21 = .ok (.iload_n 3, 1) := by decide +kernel
theorem dX47_compare_22 : decode cX47_compare 22 = .ok (.iadd, 1) := by decide +kernel
theorem dX47_compare_23 : decode cX47_compare 23 = .ok (.laload, 1) := by decide +kernel
theorem dX47_compare_24 : decode cX47_compare 24 = .ok (.lcmp, 1) := by decide +kernel
theorem dX47_compare_25 : decode cX47_compare 25 = .ok (.ifCond .eq 29, 3) := by decide +kernel
theorem dX47_compare_28 : decode cX47_compare 28 = .ok (.aload_n 0, 1) := by decide +kernel
theorem dX47_compare_29 : decode cX47_compare 29 = .ok (.bipush 8, 2) := by decide +kernel
theorem dX47_compare_31 : decode cX47_compare 31 = .ok (.iload_n 1, 1) := by decide +kernel
theorem dX47_compare_32 : decode cX47_compare 32 = .ok (.imul, 1) := by decide +kernel
theorem dX47_compare_33 : decode cX47_compare 33 = .ok (.iload_n 3, 1) := by decide +kernel
theorem dX47_compare_34 : decode cX47_compare 34 = .ok (.iadd, 1) := by decide +kernel
theorem dX47_compare_35 : decode cX47_compare 35 = .ok (.laload, 1) := by decide +kernel
theorem dX47_compare_36 : decode cX47_compare 36 = .ok (.aload_n 0, 1) := by decide +kernel
theorem dX47_compare_37 : decode cX47_compare 37 = .ok (.bipush 8, 2) := by decide +kernel
theorem dX47_compare_39 : decode cX47_compare 39 = .ok (.iload_n 2, 1) := by decide +kernel
theorem dX47_compare_40 : decode cX47_compare 40 = .ok (.imul, 1) := by decide +kernel
theorem dX47_compare_41 : decode cX47_compare 41 = .ok (.iload_n 3, 1) := by decide +kernel
theorem dX47_compare_42 : decode cX47_compare 42 = .ok (.iadd, 1) := by decide +kernel
theorem dX47_compare_43 : decode cX47_compare 43 = .ok (.laload, 1) := by decide +kernel
theorem dX47_compare_44 : decode cX47_compare 44 = .ok (.lcmp, 1) := by decide +kernel
theorem dX47_compare_45 : decode cX47_compare 45 = .ok (.ifCond .ge 7, 3) := by decide +kernel
theorem dX47_compare_48 : decode cX47_compare 48 = .ok (.iconst (-1), 1) := by decide +kernel
theorem dX47_compare_49 : decode cX47_compare 49 = .ok (.goto 4, 3) := by decide +kernel
theorem dX47_compare_52 : decode cX47_compare 52 = .ok (.iconst 1, 1) := by decide +kernel
theorem dX47_compare_53 : decode cX47_compare 53 = .ok (.ireturn, 1) := by decide +kernel
theorem dX47_compare_54 : decode cX47_compare 54 = .ok (.iinc 3 1, 3) := by decide +kernel
theorem dX47_compare_57 : decode cX47_compare 57 = .ok (.goto (-55), 3) := by decide +kernel
theorem dX47_compare_60 : decode cX47_compare 60 = .ok (.iconst 0, 1) := by decide +kernel
theorem dX47_compare_61 : decode cX47_compare 61 = .ok (.ireturn, 1) := by decide +kernel
abbrev cX47_makeGroups : ByteArray := prog_80_method_21_code
def yX47_makeGroups : MethodName := ⟨RX47, "makeGroups", "(I)V"⟩
theorem dX47_makeGroups_0 : decode cX47_makeGroups 0 = .ok (.aload_n 0, 1) := by decide +kernel
theorem dX47_makeGroups_1 : decode cX47_makeGroups 1 = .ok (.iconst 0, 1) := by decide +kernel
theorem dX47_makeGroups_2 : decode cX47_makeGroups 2 = .ok (.putfield 291, 3) := by decide +kernel
theorem dX47_makeGroups_5 : decode cX47_makeGroups 5 = .ok (.iconst 1, 1) := by decide +kernel
theorem dX47_makeGroups_6 : decode cX47_makeGroups 6 = .ok (.istore_n 2, 1) := by decide +kernel
theorem dX47_makeGroups_7 : decode cX47_makeGroups 7 = .ok (.iload_n 2, 1) := by decide +kernel
theorem dX47_makeGroups_8 : decode cX47_makeGroups 8 = .ok (.iload_n 1, 1) := by decide +kernel
theorem dX47_makeGroups_9 : decode cX47_makeGroups 9 = .ok (.if_icmp .gt 16, 3) := by decide +kernel
theorem dX47_makeGroups_12 : decode cX47_makeGroups 12 = .ok (.aload_n 0, 1) := by decide +kernel
theorem dX47_makeGroups_13 : decode cX47_makeGroups 13 = .ok (.getfield 161, 3) := by decide +kernel
theorem dX47_makeGroups_16 : decode cX47_makeGroups 16 = .ok (.iload_n 2, 1) := by decide +kernel
theorem dX47_makeGroups_17 : decode cX47_makeGroups 17 = .ok (.iconst (-1), 1) := by decide +kernel
theorem dX47_makeGroups_18 : decode cX47_makeGroups 18 = .ok (.iastore, 1) := by decide +kernel
theorem dX47_makeGroups_19 : decode cX47_makeGroups 19 = .ok (.iinc 2 1, 3) := by decide +kernel
theorem dX47_makeGroups_22 : decode cX47_makeGroups 22 = .ok (.goto (-15), 3) := by decide +kernel
theorem dX47_makeGroups_25 : decode cX47_makeGroups 25 = .ok (.iconst 1, 1) := by decide +kernel
theorem dX47_makeGroups_26 : decode cX47_makeGroups 26 = .ok (.istore_n 2, 1) := by decide +kernel
theorem dX47_makeGroups_27 : decode cX47_makeGroups 27 = .ok (.iconst 0, 1) := by decide +kernel
theorem dX47_makeGroups_28 : decode cX47_makeGroups 28 = .ok (.istore_n 3, 1) := by decide +kernel
theorem dX47_makeGroups_29 : decode cX47_makeGroups 29 = .ok (.iload_n 3, 1) := by decide +kernel
theorem dX47_makeGroups_30 : decode cX47_makeGroups 30 = .ok (.iload_n 1, 1) := by decide +kernel
theorem dX47_makeGroups_31 : decode cX47_makeGroups 31 = .ok (.if_icmp .ge 136, 3) := by decide +kernel
theorem dX47_makeGroups_34 : decode cX47_makeGroups 34 = .ok (.iconst 0, 1) := by decide +kernel
theorem dX47_makeGroups_35 : decode cX47_makeGroups 35 = .ok (.istore 4, 2) := by decide +kernel
theorem dX47_makeGroups_37 : decode cX47_makeGroups 37 = .ok (.iconst 1, 1) := by decide +kernel
theorem dX47_makeGroups_38 : decode cX47_makeGroups 38 = .ok (.istore 5, 2) := by decide +kernel
theorem dX47_makeGroups_40 : decode cX47_makeGroups 40 = .ok (.iload 5, 2) := by decide +kernel
theorem dX47_makeGroups_42 : decode cX47_makeGroups 42 = .ok (.iload_n 1, 1) := by decide +kernel
theorem dX47_makeGroups_43 : decode cX47_makeGroups 43 = .ok (.if_icmp .gt 42, 3) := by decide +kernel
theorem dX47_makeGroups_46 : decode cX47_makeGroups 46 = .ok (.aload_n 0, 1) := by decide +kernel
theorem dX47_makeGroups_47 : decode cX47_makeGroups 47 = .ok (.getfield 161, 3) := by decide +kernel
theorem dX47_makeGroups_50 : decode cX47_makeGroups 50 = .ok (.iload 5, 2) := by decide +kernel
theorem dX47_makeGroups_52 : decode cX47_makeGroups 52 = .ok (.iaload, 1) := by decide +kernel
theorem dX47_makeGroups_53 : decode cX47_makeGroups 53 = .ok (.ifCond .ge 26, 3) := by decide +kernel
theorem dX47_makeGroups_56 : decode cX47_makeGroups 56 = .ok (.iload 4, 2) := by decide +kernel
theorem dX47_makeGroups_58 : decode cX47_makeGroups 58 = .ok (.ifCond .eq 17, 3) := by decide +kernel
theorem dX47_makeGroups_61 : decode cX47_makeGroups 61 = .ok (.aload_n 0, 1) := by decide +kernel
theorem dX47_makeGroups_62 : decode cX47_makeGroups 62 = .ok (.getfield 155, 3) := by decide +kernel
theorem dX47_makeGroups_65 : decode cX47_makeGroups 65 = .ok (.iload 5, 2) := by decide +kernel
theorem dX47_makeGroups_67 : decode cX47_makeGroups 67 = .ok (.iload 4, 2) := by decide +kernel
theorem dX47_makeGroups_69 : decode cX47_makeGroups 69 = .ok (.invokestatic 274, 3) := by decide +kernel
theorem dX47_makeGroups_72 : decode cX47_makeGroups 72 = .ok (.ifCond .ge 7, 3) := by decide +kernel
theorem dX47_makeGroups_75 : decode cX47_makeGroups 75 = .ok (.iload 5, 2) := by decide +kernel
theorem dX47_makeGroups_77 : decode cX47_makeGroups 77 = .ok (.istore 4, 2) := by decide +kernel
theorem dX47_makeGroups_79 : decode cX47_makeGroups 79 = .ok (.iinc 5 1, 3) := by decide +kernel
theorem dX47_makeGroups_82 : decode cX47_makeGroups 82 = .ok (.goto (-42), 3) := by decide +kernel
theorem dX47_makeGroups_85 : decode cX47_makeGroups 85 = .ok (.iconst 1, 1) := by decide +kernel
theorem dX47_makeGroups_86 : decode cX47_makeGroups 86 = .ok (.istore 5, 2) := by decide +kernel
theorem dX47_makeGroups_88 : decode cX47_makeGroups 88 = .ok (.iload 5, 2) := by decide +kernel
theorem dX47_makeGroups_90 : decode cX47_makeGroups 90 = .ok (.iload_n 1, 1) := by decide +kernel
theorem dX47_makeGroups_91 : decode cX47_makeGroups 91 = .ok (.if_icmp .gt 63, 3) := by decide +kernel
theorem dX47_makeGroups_94 : decode cX47_makeGroups 94 = .ok (.aload_n 0, 1) := by decide +kernel
theorem dX47_makeGroups_95 : decode cX47_makeGroups 95 = .ok (.getfield 161, 3) := by decide +kernel
theorem dX47_makeGroups_98 : decode cX47_makeGroups 98 = .ok (.iload 5, 2) := by decide +kernel
theorem dX47_makeGroups_100 : decode cX47_makeGroups 100 = .ok (.iaload, 1) := by decide +kernel
theorem dX47_makeGroups_101 : decode cX47_makeGroups 101 = .ok (.ifCond .ge 47, 3) := by decide +kernel
theorem dX47_makeGroups_104 : decode cX47_makeGroups 104 = .ok (.aload_n 0, 1) := by decide +kernel
theorem dX47_makeGroups_105 : decode cX47_makeGroups 105 = .ok (.getfield 155, 3) := by decide +kernel
theorem dX47_makeGroups_108 : decode cX47_makeGroups 108 = .ok (.iload 5, 2) := by decide +kernel
theorem dX47_makeGroups_110 : decode cX47_makeGroups 110 = .ok (.iload 4, 2) := by decide +kernel
theorem dX47_makeGroups_112 : decode cX47_makeGroups 112 = .ok (.invokestatic 274, 3) := by decide +kernel
theorem dX47_makeGroups_115 : decode cX47_makeGroups 115 = .ok (.ifCond .eq 6, 3) := by decide +kernel
theorem dX47_makeGroups_118 : decode cX47_makeGroups 118 = .ok (.goto 30, 3) := by decide +kernel
theorem dX47_makeGroups_121 : decode cX47_makeGroups 121 = .ok (.aload_n 0, 1) := by decide +kernel
theorem dX47_makeGroups_122 : decode cX47_makeGroups 122 = .ok (.getfield 161, 3) := by decide +kernel
theorem dX47_makeGroups_125 : decode cX47_makeGroups 125 = .ok (.iload 5, 2) := by decide +kernel
theorem dX47_makeGroups_127 : decode cX47_makeGroups 127 = .ok (.aload_n 0, 1) := by decide +kernel
theorem dX47_makeGroups_128 : decode cX47_makeGroups 128 = .ok (.getfield 291, 3) := by decide +kernel
theorem dX47_makeGroups_131 : decode cX47_makeGroups 131 = .ok (.iastore, 1) := by decide +kernel
theorem dX47_makeGroups_132 : decode cX47_makeGroups 132 = .ok (.aload_n 0, 1) := by decide +kernel
theorem dX47_makeGroups_133 : decode cX47_makeGroups 133 = .ok (.getfield 164, 3) := by decide +kernel
theorem dX47_makeGroups_136 : decode cX47_makeGroups 136 = .ok (.iload_n 2, 1) := by decide +kernel
theorem dX47_makeGroups_137 : decode cX47_makeGroups 137 = .ok (.aload_n 0, 1) := by decide +kernel
theorem dX47_makeGroups_138 : decode cX47_makeGroups 138 = .ok (.getfield 291, 3) := by decide +kernel
theorem dX47_makeGroups_141 : decode cX47_makeGroups 141 = .ok (.iastore, 1) := by decide +kernel
theorem dX47_makeGroups_142 : decode cX47_makeGroups 142 = .ok (.iinc 2 1, 3) := by decide +kernel
theorem dX47_makeGroups_145 : decode cX47_makeGroups 145 = .ok (.iinc 3 1, 3) := by decide +kernel
theorem dX47_makeGroups_148 : decode cX47_makeGroups 148 = .ok (.iinc 5 1, 3) := by decide +kernel
theorem dX47_makeGroups_151 : decode cX47_makeGroups 151 = .ok (.goto (-63), 3) := by decide +kernel
theorem dX47_makeGroups_154 : decode cX47_makeGroups 154 = .ok (.aload_n 0, 1) := by decide +kernel
theorem dX47_makeGroups_155 : decode cX47_makeGroups 155 = .ok (.dup, 1) := by decide +kernel
theorem dX47_makeGroups_156 : decode cX47_makeGroups 156 = .ok (.getfield 291, 3) := by decide +kernel
theorem dX47_makeGroups_159 : decode cX47_makeGroups 159 = .ok (.iconst 1, 1) := by decide +kernel
theorem dX47_makeGroups_160 : decode cX47_makeGroups 160 = .ok (.iadd, 1) := by decide +kernel
theorem dX47_makeGroups_161 : decode cX47_makeGroups 161 = .ok (.putfield 291, 3) := by decide +kernel
theorem dX47_makeGroups_164 : decode cX47_makeGroups 164 = .ok (.goto (-135), 3) := by decide +kernel
theorem dX47_makeGroups_167 : decode cX47_makeGroups 167 = .ok (.return_, 1) := by decide +kernel
abbrev cX47_namings : ByteArray := prog_80_method_33_code
def yX47_namings : MethodName := ⟨RX47, "namings", "()J"⟩
theorem dX47_namings_0 : decode cX47_namings 0 = .ok (.lconst 1, 1) := by decide +kernel
theorem dX47_namings_1 : decode cX47_namings 1 = .ok (.lstore_n 1, 1) := by decide +kernel
theorem dX47_namings_2 : decode cX47_namings 2 = .ok (.iconst 0, 1) := by decide +kernel
theorem dX47_namings_3 : decode cX47_namings 3 = .ok (.istore_n 3, 1) := by decide +kernel
theorem dX47_namings_4 : decode cX47_namings 4 = .ok (.iload_n 3, 1) := by decide +kernel
theorem dX47_namings_5 : decode cX47_namings 5 = .ok (.aload_n 0, 1) := by decide +kernel
theorem dX47_namings_6 : decode cX47_namings 6 = .ok (.getfield 291, 3) := by decide +kernel
theorem dX47_namings_9 : decode cX47_namings 9 = .ok (.if_icmp .ge 75, 3) := by decide +kernel
theorem dX47_namings_12 : decode cX47_namings 12 = .ok (.iconst 0, 1) := by decide +kernel
theorem dX47_namings_13 : decode cX47_namings 13 = .ok (.istore 4, 2) := by decide +kernel
theorem dX47_namings_15 : decode cX47_namings 15 = .ok (.iconst 1, 1) := by decide +kernel
theorem dX47_namings_16 : decode cX47_namings 16 = .ok (.istore 5, 2) := by decide +kernel
theorem dX47_namings_18 : decode cX47_namings 18 = .ok (.iload 5, 2) := by decide +kernel
theorem dX47_namings_20 : decode cX47_namings 20 = .ok (.aload_n 0, 1) := by decide +kernel
theorem dX47_namings_21 : decode cX47_namings 21 = .ok (.getfield 145, 3) := by decide +kernel
theorem dX47_namings_24 : decode cX47_namings 24 = .ok (.bipush 8, 2) := by decide +kernel
theorem dX47_namings_26 : decode cX47_namings 26 = .ok (.iaload, 1) := by decide +kernel
theorem dX47_namings_27 : decode cX47_namings 27 = .ok (.if_icmp .gt 51, 3) := by decide +kernel
theorem dX47_namings_30 : decode cX47_namings 30 = .ok (.iload 4, 2) := by decide +kernel
theorem dX47_namings_32 : decode cX47_namings 32 = .ok (.aload_n 0, 1) := by decide +kernel
theorem dX47_namings_33 : decode cX47_namings 33 = .ok (.getfield 161, 3) := by decide +kernel
theorem dX47_namings_36 : decode cX47_namings 36 = .ok (.iload 5, 2) := by decide +kernel
theorem dX47_namings_38 : decode cX47_namings 38 = .ok (.iaload, 1) := by decide +kernel
theorem dX47_namings_39 : decode cX47_namings 39 = .ok (.iload_n 3, 1) := by decide +kernel
theorem dX47_namings_40 : decode cX47_namings 40 = .ok (.if_icmp .ne 7, 3) := by decide +kernel
theorem dX47_namings_43 : decode cX47_namings 43 = .ok (.iconst 1, 1) := by decide +kernel
theorem dX47_namings_44 : decode cX47_namings 44 = .ok (.goto 4, 3) := by decide +kernel
theorem dX47_namings_47 : decode cX47_namings 47 = .ok (.iconst 0, 1) := by decide +kernel
theorem dX47_namings_48 : decode cX47_namings 48 = .ok (.iadd, 1) := by decide +kernel
theorem dX47_namings_49 : decode cX47_namings 49 = .ok (.istore 4, 2) := by decide +kernel
theorem dX47_namings_51 : decode cX47_namings 51 = .ok (.aload_n 0, 1) := by decide +kernel
theorem dX47_namings_52 : decode cX47_namings 52 = .ok (.getfield 161, 3) := by decide +kernel
theorem dX47_namings_55 : decode cX47_namings 55 = .ok (.iload 5, 2) := by decide +kernel
theorem dX47_namings_57 : decode cX47_namings 57 = .ok (.iaload, 1) := by decide +kernel
theorem dX47_namings_58 : decode cX47_namings 58 = .ok (.iload_n 3, 1) := by decide +kernel
theorem dX47_namings_59 : decode cX47_namings 59 = .ok (.if_icmp .ne 11, 3) := by decide +kernel
theorem dX47_namings_62 : decode cX47_namings 62 = .ok (.lload_n 1, 1) := by decide +kernel
theorem dX47_namings_63 : decode cX47_namings 63 = .ok (.iload 4, 2) := by decide +kernel
theorem dX47_namings_65 : decode cX47_namings 65 = .ok (.i2l, 1) := by decide +kernel
theorem dX47_namings_66 : decode cX47_namings 66 = .ok (.lmul, 1) := by decide +kernel
theorem dX47_namings_67 : decode cX47_namings 67 = .ok (.goto 4, 3) := by decide +kernel
theorem dX47_namings_70 : decode cX47_namings 70 = .ok (.lload_n 1, 1) := by decide +kernel
theorem dX47_namings_71 : decode cX47_namings 71 = .ok (.lstore_n 1, 1) := by decide +kernel
theorem dX47_namings_72 : decode cX47_namings 72 = .ok (.iinc 5 1, 3) := by decide +kernel
theorem dX47_namings_75 : decode cX47_namings 75 = .ok (.goto (-57), 3) := by decide +kernel
theorem dX47_namings_78 : decode cX47_namings 78 = .ok (.iinc 3 1, 3) := by decide +kernel
theorem dX47_namings_81 : decode cX47_namings 81 = .ok (.goto (-77), 3) := by decide +kernel
theorem dX47_namings_84 : decode cX47_namings 84 = .ok (.lload_n 1, 1) := by decide +kernel
theorem dX47_namings_85 : decode cX47_namings 85 = .ok (.lreturn, 1) := by decide +kernel
abbrev cX47_begin : ByteArray := prog_80_method_27_code
def yX47_begin : MethodName := ⟨RX47, "begin", "(I)V"⟩
theorem dX47_begin_0 : decode cX47_begin 0 = .ok (.iconst 1, 1) := by decide +kernel
theorem dX47_begin_1 : decode cX47_begin 1 = .ok (.istore_n 2, 1) := by decide +kernel
theorem dX47_begin_2 : decode cX47_begin 2 = .ok (.iload_n 2, 1) := by decide +kernel
theorem dX47_begin_3 : decode cX47_begin 3 = .ok (.iload_n 1, 1) := by decide +kernel
theorem dX47_begin_4 : decode cX47_begin 4 = .ok (.if_icmp .gt 16, 3) := by decide +kernel
theorem dX47_begin_7 : decode cX47_begin 7 = .ok (.aload_n 0, 1) := by decide +kernel
theorem dX47_begin_8 : decode cX47_begin 8 = .ok (.getfield 167, 3) := by decide +kernel
theorem dX47_begin_11 : decode cX47_begin 11 = .ok (.iload_n 2, 1) := by decide +kernel
theorem dX47_begin_12 : decode cX47_begin 12 = .ok (.iload_n 2, 1) := by decide +kernel
theorem dX47_begin_13 : decode cX47_begin 13 = .ok (.iastore, 1) := by decide +kernel
theorem dX47_begin_14 : decode cX47_begin 14 = .ok (.iinc 2 1, 3) := by decide +kernel
theorem dX47_begin_17 : decode cX47_begin 17 = .ok (.goto (-15), 3) := by decide +kernel
theorem dX47_begin_20 : decode cX47_begin 20 = .ok (.return_, 1) := by decide +kernel
abbrev cX47_isNaming : ByteArray := prog_80_method_28_code
def yX47_isNaming : MethodName := ⟨RX47, "isNaming", "(I)Z"⟩
theorem dX47_isNaming_0 : decode cX47_isNaming 0 = .ok (.iconst 1, 1) := by decide +kernel
theorem dX47_isNaming_1 : decode cX47_isNaming 1 = .ok (.istore_n 2, 1) := by decide +kernel
theorem dX47_isNaming_2 : decode cX47_isNaming 2 = .ok (.iconst 1, 1) := by decide +kernel
theorem dX47_isNaming_3 : decode cX47_isNaming 3 = .ok (.istore_n 3, 1) := by decide +kernel
theorem dX47_isNaming_4 : decode cX47_isNaming 4 = .ok (.iload_n 3, 1) := by decide +kernel
theorem dX47_isNaming_5 : decode cX47_isNaming 5 = .ok (.iload_n 1, 1) := by decide +kernel
theorem dX47_isNaming_6 : decode cX47_isNaming 6 = .ok (.if_icmp .gt 39, 3) := by decide +kernel
theorem dX47_isNaming_9 : decode cX47_isNaming 9 = .ok (.iload_n 2, 1) := by decide +kernel
theorem dX47_isNaming_10 : decode cX47_isNaming 10 = .ok (.ifCond .eq 35, 3) := by decide +kernel
theorem dX47_isNaming_13 : decode cX47_isNaming 13 = .ok (.aload_n 0, 1) := by decide +kernel
theorem dX47_isNaming_14 : decode cX47_isNaming 14 = .ok (.getfield 164, 3) := by decide +kernel
theorem dX47_isNaming_17 : decode cX47_isNaming 17 = .ok (.aload_n 0, 1) := by decide +kernel
theorem dX47_isNaming_18 : decode cX47_isNaming 18 = .ok (.getfield 167, 3) := by decide +kernel
theorem dX47_isNaming_21 : decode cX47_isNaming 21 = .ok (.iload_n 3, 1) := by decide +kernel
theorem dX47_isNaming_22 : decode cX47_isNaming 22 = .ok (.iaload, 1) := by decide +kernel
theorem dX47_isNaming_23 : decode cX47_isNaming 23 = .ok (.iaload, 1) := by decide +kernel
theorem dX47_isNaming_24 : decode cX47_isNaming 24 = .ok (.aload_n 0, 1) := by decide +kernel
theorem dX47_isNaming_25 : decode cX47_isNaming 25 = .ok (.getfield 161, 3) := by decide +kernel
theorem dX47_isNaming_28 : decode cX47_isNaming 28 = .ok (.iload_n 3, 1) := by decide +kernel
theorem dX47_isNaming_29 : decode cX47_isNaming 29 = .ok (.iaload, 1) := by decide +kernel
theorem dX47_isNaming_30 : decode cX47_isNaming 30 = .ok (.if_icmp .ne 7, 3) := by decide +kernel
theorem dX47_isNaming_33 : decode cX47_isNaming 33 = .ok (.iconst 1, 1) := by decide +kernel
theorem dX47_isNaming_34 : decode cX47_isNaming 34 = .ok (.goto 4, 3) := by decide +kernel
theorem dX47_isNaming_37 : decode cX47_isNaming 37 = .ok (.iconst 0, 1) := by decide +kernel
theorem dX47_isNaming_38 : decode cX47_isNaming 38 = .ok (.istore_n 2, 1) := by decide +kernel
theorem dX47_isNaming_39 : decode cX47_isNaming 39 = .ok (.iinc 3 1, 3) := by decide +kernel
theorem dX47_isNaming_42 : decode cX47_isNaming 42 = .ok (.goto (-38), 3) := by decide +kernel
theorem dX47_isNaming_45 : decode cX47_isNaming 45 = .ok (.iload_n 2, 1) := by decide +kernel
theorem dX47_isNaming_46 : decode cX47_isNaming 46 = .ok (.ireturn, 1) := by decide +kernel
abbrev cX47_makeRow : ByteArray := prog_80_method_31_code
def yX47_makeRow : MethodName := ⟨RX47, "makeRow", "()V"⟩
theorem dX47_makeRow_0 : decode cX47_makeRow 0 = .ok (.iconst 0, 1) := by decide +kernel
theorem dX47_makeRow_1 : decode cX47_makeRow 1 = .ok (.istore_n 1, 1) := by decide +kernel
theorem dX47_makeRow_2 : decode cX47_makeRow 2 = .ok (.iload_n 1, 1) := by decide +kernel
theorem dX47_makeRow_3 : decode cX47_makeRow 3 = .ok (.aload_n 0, 1) := by decide +kernel
theorem dX47_makeRow_4 : decode cX47_makeRow 4 = .ok (.getfield 149, 3) := by decide +kernel
theorem dX47_makeRow_7 : decode cX47_makeRow 7 = .ok (.bipush 8, 2) := by decide +kernel
theorem dX47_makeRow_9 : decode cX47_makeRow 9 = .ok (.iaload, 1) := by decide +kernel
theorem dX47_makeRow_10 : decode cX47_makeRow 10 = .ok (.if_icmp .ge 187, 3) := by decide +kernel
theorem dX47_makeRow_13 : decode cX47_makeRow 13 = .ok (.bipush 8, 2) := by decide +kernel
theorem dX47_makeRow_15 : decode cX47_makeRow 15 = .ok (.iload_n 1, 1) := by decide +kernel
theorem dX47_makeRow_16 : decode cX47_makeRow 16 = .ok (.invokestatic 245, 3) := by decide +kernel
theorem dX47_makeRow_19 : decode cX47_makeRow 19 = .ok (.istore_n 2, 1) := by decide +kernel
theorem dX47_makeRow_20 : decode cX47_makeRow 20 = .ok (.iload_n 1, 1) := by decide +kernel
theorem dX47_makeRow_21 : decode cX47_makeRow 21 = .ok (.istore_n 3, 1) := by decide +kernel
theorem dX47_makeRow_22 : decode cX47_makeRow 22 = .ok (.aload_n 0, 1) := by decide +kernel
theorem dX47_makeRow_23 : decode cX47_makeRow 23 = .ok (.aload_n 0, 1) := by decide +kernel
theorem dX47_makeRow_24 : decode cX47_makeRow 24 = .ok (.getfield 152, 3) := by decide +kernel
theorem dX47_makeRow_27 : decode cX47_makeRow 27 = .ok (.iload_n 2, 1) := by decide +kernel
theorem dX47_makeRow_28 : decode cX47_makeRow 28 = .ok (.iaload, 1) := by decide +kernel
theorem dX47_makeRow_29 : decode cX47_makeRow 29 = .ok (.invokevirtual 300, 3) := by decide +kernel
theorem dX47_makeRow_32 : decode cX47_makeRow 32 = .ok (.istore 4, 2) := by decide +kernel
theorem dX47_makeRow_34 : decode cX47_makeRow 34 = .ok (.aload_n 0, 1) := by decide +kernel
theorem dX47_makeRow_35 : decode cX47_makeRow 35 = .ok (.aload_n 0, 1) := by decide +kernel
theorem dX47_makeRow_36 : decode cX47_makeRow 36 = .ok (.getfield 152, 3) := by decide +kernel
theorem dX47_makeRow_39 : decode cX47_makeRow 39 = .ok (.iload_n 2, 1) := by decide +kernel
theorem dX47_makeRow_40 : decode cX47_makeRow 40 = .ok (.iconst 1, 1) := by decide +kernel
theorem dX47_makeRow_41 : decode cX47_makeRow 41 = .ok (.iadd, 1) := by decide +kernel
theorem dX47_makeRow_42 : decode cX47_makeRow 42 = .ok (.iaload, 1) := by decide +kernel
theorem dX47_makeRow_43 : decode cX47_makeRow 43 = .ok (.invokevirtual 300, 3) := by decide +kernel
theorem dX47_makeRow_46 : decode cX47_makeRow 46 = .ok (.istore 5, 2) := by decide +kernel
theorem dX47_makeRow_48 : decode cX47_makeRow 48 = .ok (.aload_n 0, 1) := by decide +kernel
theorem dX47_makeRow_49 : decode cX47_makeRow 49 = .ok (.aload_n 0, 1) := by decide +kernel
theorem dX47_makeRow_50 : decode cX47_makeRow 50 = .ok (.getfield 152, 3) := by decide +kernel
theorem dX47_makeRow_53 : decode cX47_makeRow 53 = .ok (.iload_n 2, 1) := by decide +kernel
theorem dX47_makeRow_54 : decode cX47_makeRow 54 = .ok (.iconst 2, 1) := by decide +kernel
theorem dX47_makeRow_55 : decode cX47_makeRow 55 = .ok (.iadd, 1) := by decide +kernel
theorem dX47_makeRow_56 : decode cX47_makeRow 56 = .ok (.iaload, 1) := by decide +kernel
theorem dX47_makeRow_57 : decode cX47_makeRow 57 = .ok (.invokevirtual 300, 3) := by decide +kernel
theorem dX47_makeRow_60 : decode cX47_makeRow 60 = .ok (.istore 6, 2) := by decide +kernel
theorem dX47_makeRow_62 : decode cX47_makeRow 62 = .ok (.aload_n 0, 1) := by decide +kernel
theorem dX47_makeRow_63 : decode cX47_makeRow 63 = .ok (.getfield 170, 3) := by decide +kernel
theorem dX47_makeRow_66 : decode cX47_makeRow 66 = .ok (.iconst 3, 1) := by decide +kernel
theorem dX47_makeRow_67 : decode cX47_makeRow 67 = .ok (.iload_n 3, 1) := by decide +kernel
theorem dX47_makeRow_68 : decode cX47_makeRow 68 = .ok (.imul, 1) := by decide +kernel
theorem dX47_makeRow_69 : decode cX47_makeRow 69 = .ok (.iload 4, 2) := by decide +kernel
theorem dX47_makeRow_71 : decode cX47_makeRow 71 = .ok (.iastore, 1) := by decide +kernel
theorem dX47_makeRow_72 : decode cX47_makeRow 72 = .ok (.aload_n 0, 1) := by decide +kernel
theorem dX47_makeRow_73 : decode cX47_makeRow 73 = .ok (.getfield 170, 3) := by decide +kernel
theorem dX47_makeRow_76 : decode cX47_makeRow 76 = .ok (.iconst 3, 1) := by decide +kernel
theorem dX47_makeRow_77 : decode cX47_makeRow 77 = .ok (.iload_n 3, 1) := by decide +kernel
theorem dX47_makeRow_78 : decode cX47_makeRow 78 = .ok (.imul, 1) := by decide +kernel
theorem dX47_makeRow_79 : decode cX47_makeRow 79 = .ok (.iconst 1, 1) := by decide +kernel
theorem dX47_makeRow_80 : decode cX47_makeRow 80 = .ok (.iadd, 1) := by decide +kernel
theorem dX47_makeRow_81 : decode cX47_makeRow 81 = .ok (.iload 5, 2) := by decide +kernel
theorem dX47_makeRow_83 : decode cX47_makeRow 83 = .ok (.iastore, 1) := by decide +kernel
theorem dX47_makeRow_84 : decode cX47_makeRow 84 = .ok (.aload_n 0, 1) := by decide +kernel
theorem dX47_makeRow_85 : decode cX47_makeRow 85 = .ok (.getfield 170, 3) := by decide +kernel
theorem dX47_makeRow_88 : decode cX47_makeRow 88 = .ok (.iconst 3, 1) := by decide +kernel
theorem dX47_makeRow_89 : decode cX47_makeRow 89 = .ok (.iload_n 3, 1) := by decide +kernel
theorem dX47_makeRow_90 : decode cX47_makeRow 90 = .ok (.imul, 1) := by decide +kernel
theorem dX47_makeRow_91 : decode cX47_makeRow 91 = .ok (.iconst 2, 1) := by decide +kernel
theorem dX47_makeRow_92 : decode cX47_makeRow 92 = .ok (.iadd, 1) := by decide +kernel
theorem dX47_makeRow_93 : decode cX47_makeRow 93 = .ok (.iload 6, 2) := by decide +kernel
theorem dX47_makeRow_95 : decode cX47_makeRow 95 = .ok (.iastore, 1) := by decide +kernel
theorem dX47_makeRow_96 : decode cX47_makeRow 96 = .ok (.iload_n 3, 1) := by decide +kernel
theorem dX47_makeRow_97 : decode cX47_makeRow 97 = .ok (.ifCond .le 94, 3) := by decide +kernel
theorem dX47_makeRow_100 : decode cX47_makeRow 100 = .ok (.aload_n 0, 1) := by decide +kernel
theorem dX47_makeRow_101 : decode cX47_makeRow 101 = .ok (.getfield 170, 3) := by decide +kernel
theorem dX47_makeRow_104 : decode cX47_makeRow 104 = .ok (.iload_n 3, 1) := by decide +kernel
theorem dX47_makeRow_105 : decode cX47_makeRow 105 = .ok (.aload_n 0, 1) := by decide +kernel
theorem dX47_makeRow_106 : decode cX47_makeRow 106 = .ok (.getfield 170, 3) := by decide +kernel
theorem dX47_makeRow_109 : decode cX47_makeRow 109 = .ok (.iload_n 3, 1) := by decide +kernel
theorem dX47_makeRow_110 : decode cX47_makeRow 110 = .ok (.iconst 1, 1) := by decide +kernel
theorem dX47_makeRow_111 : decode cX47_makeRow 111 = .ok (.isub, 1) := by decide +kernel
theorem dX47_makeRow_112 : decode cX47_makeRow 112 = .ok (.invokestatic 304, 3) := by decide +kernel
theorem dX47_makeRow_115 : decode cX47_makeRow 115 = .ok (.ifCond .ge 76, 3) := by decide +kernel
theorem dX47_makeRow_118 : decode cX47_makeRow 118 = .ok (.iconst 0, 1) := by decide +kernel
theorem dX47_makeRow_119 : decode cX47_makeRow 119 = .ok (.istore 7, 2) := by decide +kernel
theorem dX47_makeRow_121 : decode cX47_makeRow 121 = .ok (.iload 7, 2) := by decide +kernel
theorem dX47_makeRow_123 : decode cX47_makeRow 123 = .ok (.iconst 3, 1) := by decide +kernel
theorem dX47_makeRow_124 : decode cX47_makeRow 124 = .ok (.if_icmp .ge 61, 3) := by decide +kernel
theorem dX47_makeRow_127 : decode cX47_makeRow 127 = .ok (.aload_n 0, 1) := by decide +kernel
theorem dX47_makeRow_128 : decode cX47_makeRow 128 = .ok (.getfield 170, 3) := by decide +kernel
theorem dX47_makeRow_131 : decode cX47_makeRow 131 = .ok (.iconst 3, 1) := by decide +kernel
theorem dX47_makeRow_132 : decode cX47_makeRow 132 = .ok (.iload_n 3, 1) := by decide +kernel
theorem dX47_makeRow_133 : decode cX47_makeRow 133 = .ok (.imul, 1) := by decide +kernel
theorem dX47_makeRow_134 : decode cX47_makeRow 134 = .ok (.iload 7, 2) := by decide +kernel
theorem dX47_makeRow_136 : decode cX47_makeRow 136 = .ok (.iadd, 1) := by decide +kernel
theorem dX47_makeRow_137 : decode cX47_makeRow 137 = .ok (.iaload, 1) := by decide +kernel
theorem dX47_makeRow_138 : decode cX47_makeRow 138 = .ok (.istore 8, 2) := by decide +kernel
theorem dX47_makeRow_140 : decode cX47_makeRow 140 = .ok (.aload_n 0, 1) := by decide +kernel
theorem dX47_makeRow_141 : decode cX47_makeRow 141 = .ok (.getfield 170, 3) := by decide +kernel
theorem dX47_makeRow_144 : decode cX47_makeRow 144 = .ok (.iconst 3, 1) := by decide +kernel
theorem dX47_makeRow_145 : decode cX47_makeRow 145 = .ok (.iload_n 3, 1) := by decide +kernel
theorem dX47_makeRow_146 : decode cX47_makeRow 146 = .ok (.imul, 1) := by decide +kernel
theorem dX47_makeRow_147 : decode cX47_makeRow 147 = .ok (.iload 7, 2) := by decide +kernel
theorem dX47_makeRow_149 : decode cX47_makeRow 149 = .ok (.iadd, 1) := by decide +kernel
theorem dX47_makeRow_150 : decode cX47_makeRow 150 = .ok (.aload_n 0, 1) := by decide +kernel
theorem dX47_makeRow_151 : decode cX47_makeRow 151 = .ok (.getfield 170, 3) := by decide +kernel
theorem dX47_makeRow_154 : decode cX47_makeRow 154 = .ok (.iconst 3, 1) := by decide +kernel
theorem dX47_makeRow_155 : decode cX47_makeRow 155 = .ok (.iload_n 3, 1) := by decide +kernel
theorem dX47_makeRow_156 : decode cX47_makeRow 156 = .ok (.imul, 1) := by decide +kernel
theorem dX47_makeRow_157 : decode cX47_makeRow 157 = .ok (.iconst 3, 1) := by decide +kernel
theorem dX47_makeRow_158 : decode cX47_makeRow 158 = .ok (.isub, 1) := by decide +kernel
theorem dX47_makeRow_159 : decode cX47_makeRow 159 = .ok (.iload 7, 2) := by decide +kernel
theorem dX47_makeRow_161 : decode cX47_makeRow 161 = .ok (.iadd, 1) := by decide +kernel
theorem dX47_makeRow_162 : decode cX47_makeRow 162 = .ok (.iaload, 1) := by decide +kernel
theorem dX47_makeRow_163 : decode cX47_makeRow 163 = .ok (.iastore, 1) := by decide +kernel
theorem dX47_makeRow_164 : decode cX47_makeRow 164 = .ok (.aload_n 0, 1) := by decide +kernel
theorem dX47_makeRow_165 : decode cX47_makeRow 165 = .ok (.getfield 170, 3) := by decide +kernel
theorem dX47_makeRow_168 : decode cX47_makeRow 168 = .ok (.iconst 3, 1) := by decide +kernel
theorem dX47_makeRow_169 : decode cX47_makeRow 169 = .ok (.iload_n 3, 1) := by decide +kernel
theorem dX47_makeRow_170 : decode cX47_makeRow 170 = .ok (.imul, 1) := by decide +kernel
theorem dX47_makeRow_171 : decode cX47_makeRow 171 = .ok (.iconst 3, 1) := by decide +kernel
theorem dX47_makeRow_172 : decode cX47_makeRow 172 = .ok (.isub, 1) := by decide +kernel
theorem dX47_makeRow_173 : decode cX47_makeRow 173 = .ok (.iload 7, 2) := by decide +kernel
theorem dX47_makeRow_175 : decode cX47_makeRow 175 = .ok (.iadd, 1) := by decide +kernel
theorem dX47_makeRow_176 : decode cX47_makeRow 176 = .ok (.iload 8, 2) := by decide +kernel
theorem dX47_makeRow_178 : decode cX47_makeRow 178 = .ok (.iastore, 1) := by decide +kernel
theorem dX47_makeRow_179 : decode cX47_makeRow 179 = .ok (.iinc 7 1, 3) := by decide +kernel
theorem dX47_makeRow_182 : decode cX47_makeRow 182 = .ok (.goto (-61), 3) := by decide +kernel
theorem dX47_makeRow_185 : decode cX47_makeRow 185 = .ok (.iinc 3 (-1), 3) := by decide +kernel
theorem dX47_makeRow_188 : decode cX47_makeRow 188 = .ok (.goto (-92), 3) := by decide +kernel
theorem dX47_makeRow_191 : decode cX47_makeRow 191 = .ok (.iinc 1 1, 3) := by decide +kernel
theorem dX47_makeRow_194 : decode cX47_makeRow 194 = .ok (.goto (-192), 3) := by decide +kernel
theorem dX47_makeRow_197 : decode cX47_makeRow 197 = .ok (.return_, 1) := by decide +kernel
abbrev cX47_numbered : ByteArray := prog_80_method_30_code
def yX47_numbered : MethodName := ⟨RX47, "numbered", "(I)I"⟩
theorem dX47_numbered_0 : decode cX47_numbered 0 = .ok (.iload_n 1, 1) := by decide +kernel
theorem dX47_numbered_1 : decode cX47_numbered 1 = .ok (.ifCond .le 7, 3) := by decide +kernel
theorem dX47_numbered_4 : decode cX47_numbered 4 = .ok (.iload_n 1, 1) := by decide +kernel
theorem dX47_numbered_5 : decode cX47_numbered 5 = .ok (.goto 11, 3) := by decide +kernel
theorem dX47_numbered_8 : decode cX47_numbered 8 = .ok (.aload_n 0, 1) := by decide +kernel
theorem dX47_numbered_9 : decode cX47_numbered 9 = .ok (.getfield 167, 3) := by decide +kernel
theorem dX47_numbered_12 : decode cX47_numbered 12 = .ok (.iload_n 1, 1) := by decide +kernel
theorem dX47_numbered_13 : decode cX47_numbered 13 = .ok (.ineg, 1) := by decide +kernel
theorem dX47_numbered_14 : decode cX47_numbered 14 = .ok (.iaload, 1) := by decide +kernel
theorem dX47_numbered_15 : decode cX47_numbered 15 = .ok (.ineg, 1) := by decide +kernel
theorem dX47_numbered_16 : decode cX47_numbered 16 = .ok (.ireturn, 1) := by decide +kernel
abbrev cX47_compareTriples : ByteArray := prog_80_method_29_code
def yX47_compareTriples : MethodName := ⟨RX47, "compareTriples", "([II[II)I"⟩
theorem dX47_compareTriples_0 : decode cX47_compareTriples 0 = .ok (.iconst 0, 1) := by decide +kernel
theorem dX47_compareTriples_1 : decode cX47_compareTriples 1 = .ok (.istore 4, 2) := by decide +kernel
theorem dX47_compareTriples_3 : decode cX47_compareTriples 3 = .ok (.iload 4, 2) := by decide +kernel
theorem dX47_compareTriples_5 : decode cX47_compareTriples 5 = .ok (.iconst 3, 1) := by decide +kernel
theorem dX47_compareTriples_6 : decode cX47_compareTriples 6 = .ok (.if_icmp .ge 53, 3) := by decide +kernel
theorem dX47_compareTriples_9 : decode cX47_compareTriples 9 = .ok (.aload_n 0, 1) := by decide +kernel
theorem dX47_compareTriples_10 : decode cX47_compareTriples 10 = .ok (.iconst 3, 1) := by decide +kernel
theorem dX47_compareTriples_11 : decode cX47_compareTriples 11 = .ok (.iload_n 1, 1) := by decide +kernel
theorem dX47_compareTriples_12 : decode cX47_compareTriples 12 = .ok (.imul, 1) := by decide +kernel
theorem dX47_compareTriples_13 : decode cX47_compareTriples 13 = .ok (.iload 4, 2) := by decide +kernel
theorem dX47_compareTriples_15 : decode cX47_compareTriples 15 = .ok (.iadd, 1) := by decide +kernel
theorem dX47_compareTriples_16 : decode cX47_compareTriples 16 = .ok (.iaload, 1) := by decide +kernel
theorem dX47_compareTriples_17 : decode cX47_compareTriples 17 = .ok (.aload_n 2, 1) := by decide +kernel
theorem dX47_compareTriples_18 : decode cX47_compareTriples 18 = .ok (.iconst 3, 1) := by decide +kernel
theorem dX47_compareTriples_19 : decode cX47_compareTriples 19 = .ok (.iload_n 3, 1) := by decide +kernel
theorem dX47_compareTriples_20 : decode cX47_compareTriples 20 = .ok (.imul, 1) := by decide +kernel
theorem dX47_compareTriples_21 : decode cX47_compareTriples 21 = .ok (.iload 4, 2) := by decide +kernel
theorem dX47_compareTriples_23 : decode cX47_compareTriples 23 = .ok (.iadd, 1) := by decide +kernel
theorem dX47_compareTriples_24 : decode cX47_compareTriples 24 = .ok (.iaload, 1) := by decide +kernel
theorem dX47_compareTriples_25 : decode cX47_compareTriples 25 = .ok (.if_icmp .eq 28, 3) := by decide +kernel
theorem dX47_compareTriples_28 : decode cX47_compareTriples 28 = .ok (.aload_n 0, 1) := by decide +kernel
theorem dX47_compareTriples_29 : decode cX47_compareTriples 29 = .ok (.iconst 3, 1) := by decide +kernel
theorem dX47_compareTriples_30 : decode cX47_compareTriples 30 = .ok (.iload_n 1, 1) := by decide +kernel
theorem dX47_compareTriples_31 : decode cX47_compareTriples 31 = .ok (.imul, 1) := by decide +kernel
theorem dX47_compareTriples_32 : decode cX47_compareTriples 32 = .ok (.iload 4, 2) := by decide +kernel
theorem dX47_compareTriples_34 : decode cX47_compareTriples 34 = .ok (.iadd, 1) := by decide +kernel
theorem dX47_compareTriples_35 : decode cX47_compareTriples 35 = .ok (.iaload, 1) := by decide +kernel
theorem dX47_compareTriples_36 : decode cX47_compareTriples 36 = .ok (.aload_n 2, 1) := by decide +kernel
theorem dX47_compareTriples_37 : decode cX47_compareTriples 37 = .ok (.iconst 3, 1) := by decide +kernel
theorem dX47_compareTriples_38 : decode cX47_compareTriples 38 = .ok (.iload_n 3, 1) := by decide +kernel
theorem dX47_compareTriples_39 : decode cX47_compareTriples 39 = .ok (.imul, 1) := by decide +kernel
theorem dX47_compareTriples_40 : decode cX47_compareTriples 40 = .ok (.iload 4, 2) := by decide +kernel
theorem dX47_compareTriples_42 : decode cX47_compareTriples 42 = .ok (.iadd, 1) := by decide +kernel
theorem dX47_compareTriples_43 : decode cX47_compareTriples 43 = .ok (.iaload, 1) := by decide +kernel
theorem dX47_compareTriples_44 : decode cX47_compareTriples 44 = .ok (.if_icmp .ge 7, 3) := by decide +kernel
theorem dX47_compareTriples_47 : decode cX47_compareTriples 47 = .ok (.iconst (-1), 1) := by decide +kernel
theorem dX47_compareTriples_48 : decode cX47_compareTriples 48 = .ok (.goto 4, 3) := by decide +kernel
theorem dX47_compareTriples_51 : decode cX47_compareTriples 51 = .ok (.iconst 1, 1) := by decide +kernel
theorem dX47_compareTriples_52 : decode cX47_compareTriples 52 = .ok (.ireturn, 1) := by decide +kernel
theorem dX47_compareTriples_53 : decode cX47_compareTriples 53 = .ok (.iinc 4 1, 3) := by decide +kernel
theorem dX47_compareTriples_56 : decode cX47_compareTriples 56 = .ok (.goto (-53), 3) := by decide +kernel
theorem dX47_compareTriples_59 : decode cX47_compareTriples 59 = .ok (.iconst 0, 1) := by decide +kernel
theorem dX47_compareTriples_60 : decode cX47_compareTriples 60 = .ok (.ireturn, 1) := by decide +kernel
abbrev cX47_compareForm : ByteArray := prog_80_method_32_code
def yX47_compareForm : MethodName := ⟨RX47, "compareForm", "()I"⟩
theorem dX47_compareForm_0 : decode cX47_compareForm 0 = .ok (.iconst 0, 1) := by decide +kernel
theorem dX47_compareForm_1 : decode cX47_compareForm 1 = .ok (.istore_n 1, 1) := by decide +kernel
theorem dX47_compareForm_2 : decode cX47_compareForm 2 = .ok (.iload_n 1, 1) := by decide +kernel
theorem dX47_compareForm_3 : decode cX47_compareForm 3 = .ok (.aload_n 0, 1) := by decide +kernel
theorem dX47_compareForm_4 : decode cX47_compareForm 4 = .ok (.getfield 149, 3) := by decide +kernel
theorem dX47_compareForm_7 : decode cX47_compareForm 7 = .ok (.bipush 8, 2) := by decide +kernel
theorem dX47_compareForm_9 : decode cX47_compareForm 9 = .ok (.iaload, 1) := by decide +kernel
theorem dX47_compareForm_10 : decode cX47_compareForm 10 = .ok (.if_icmp .ge 29, 3) := by decide +kernel
theorem dX47_compareForm_13 : decode cX47_compareForm 13 = .ok (.aload_n 0, 1) := by decide +kernel
theorem dX47_compareForm_14 : decode cX47_compareForm 14 = .ok (.getfield 170, 3) := by decide +kernel
theorem dX47_compareForm_17 : decode cX47_compareForm 17 = .ok (.iload_n 1, 1) := by decide +kernel
theorem dX47_compareForm_18 : decode cX47_compareForm 18 = .ok (.aload_n 0, 1) := by decide +kernel
theorem dX47_compareForm_19 : decode cX47_compareForm 19 = .ok (.getfield 176, 3) := by decide +kernel
theorem dX47_compareForm_22 : decode cX47_compareForm 22 = .ok (.iload_n 1, 1) := by decide +kernel
theorem dX47_compareForm_23 : decode cX47_compareForm 23 = .ok (.invokestatic 304, 3) := by decide +kernel
theorem dX47_compareForm_26 : decode cX47_compareForm 26 = .ok (.istore_n 2, 1) := by decide +kernel
theorem dX47_compareForm_27 : decode cX47_compareForm 27 = .ok (.iload_n 2, 1) := by decide +kernel
theorem dX47_compareForm_28 : decode cX47_compareForm 28 = .ok (.ifCond .eq 5, 3) := by decide +kernel
theorem dX47_compareForm_31 : decode cX47_compareForm 31 = .ok (.iload_n 2, 1) := by decide +kernel
theorem dX47_compareForm_32 : decode cX47_compareForm 32 = .ok (.ireturn, 1) := by decide +kernel
theorem dX47_compareForm_33 : decode cX47_compareForm 33 = .ok (.iinc 1 1, 3) := by decide +kernel
theorem dX47_compareForm_36 : decode cX47_compareForm 36 = .ok (.goto (-34), 3) := by decide +kernel
theorem dX47_compareForm_39 : decode cX47_compareForm 39 = .ok (.iconst 0, 1) := by decide +kernel
theorem dX47_compareForm_40 : decode cX47_compareForm 40 = .ok (.ireturn, 1) := by decide +kernel
abbrev cX47_take : ByteArray := prog_80_method_35_code
def yX47_take : MethodName := ⟨RX47, "take", "(I)V"⟩
theorem dX47_take_0 : decode cX47_take 0 = .ok (.iconst 1, 1) := by decide +kernel
theorem dX47_take_1 : decode cX47_take 1 = .ok (.istore_n 2, 1) := by decide +kernel
theorem dX47_take_2 : decode cX47_take 2 = .ok (.iload_n 2, 1) := by decide +kernel
theorem dX47_take_3 : decode cX47_take 3 = .ok (.iload_n 1, 1) := by decide +kernel
theorem dX47_take_4 : decode cX47_take 4 = .ok (.if_icmp .gt 21, 3) := by decide +kernel
theorem dX47_take_7 : decode cX47_take 7 = .ok (.aload_n 0, 1) := by decide +kernel
theorem dX47_take_8 : decode cX47_take 8 = .ok (.getfield 173, 3) := by decide +kernel
theorem dX47_take_11 : decode cX47_take 11 = .ok (.iload_n 2, 1) := by decide +kernel
theorem dX47_take_12 : decode cX47_take 12 = .ok (.aload_n 0, 1) := by decide +kernel
theorem dX47_take_13 : decode cX47_take 13 = .ok (.getfield 167, 3) := by decide +kernel
theorem dX47_take_16 : decode cX47_take 16 = .ok (.iload_n 2, 1) := by decide +kernel
theorem dX47_take_17 : decode cX47_take 17 = .ok (.iaload, 1) := by decide +kernel
theorem dX47_take_18 : decode cX47_take 18 = .ok (.iastore, 1) := by decide +kernel
theorem dX47_take_19 : decode cX47_take 19 = .ok (.iinc 2 1, 3) := by decide +kernel
theorem dX47_take_22 : decode cX47_take 22 = .ok (.goto (-20), 3) := by decide +kernel
theorem dX47_take_25 : decode cX47_take 25 = .ok (.iconst 0, 1) := by decide +kernel
theorem dX47_take_26 : decode cX47_take 26 = .ok (.istore_n 2, 1) := by decide +kernel
theorem dX47_take_27 : decode cX47_take 27 = .ok (.iload_n 2, 1) := by decide +kernel
theorem dX47_take_28 : decode cX47_take 28 = .ok (.iconst 3, 1) := by decide +kernel
theorem dX47_take_29 : decode cX47_take 29 = .ok (.aload_n 0, 1) := by decide +kernel
theorem dX47_take_30 : decode cX47_take 30 = .ok (.getfield 149, 3) := by decide +kernel
theorem dX47_take_33 : decode cX47_take 33 = .ok (.bipush 8, 2) := by decide +kernel
theorem dX47_take_35 : decode cX47_take 35 = .ok (.iaload, 1) := by decide +kernel
theorem dX47_take_36 : decode cX47_take 36 = .ok (.imul, 1) := by decide +kernel
theorem dX47_take_37 : decode cX47_take 37 = .ok (.if_icmp .ge 21, 3) := by decide +kernel
theorem dX47_take_40 : decode cX47_take 40 = .ok (.aload_n 0, 1) := by decide +kernel
theorem dX47_take_41 : decode cX47_take 41 = .ok (.getfield 176, 3) := by decide +kernel
theorem dX47_take_44 : decode cX47_take 44 = .ok (.iload_n 2, 1) := by decide +kernel
theorem dX47_take_45 : decode cX47_take 45 = .ok (.aload_n 0, 1) := by decide +kernel
theorem dX47_take_46 : decode cX47_take 46 = .ok (.getfield 170, 3) := by decide +kernel
theorem dX47_take_49 : decode cX47_take 49 = .ok (.iload_n 2, 1) := by decide +kernel
theorem dX47_take_50 : decode cX47_take 50 = .ok (.iaload, 1) := by decide +kernel
theorem dX47_take_51 : decode cX47_take 51 = .ok (.iastore, 1) := by decide +kernel
theorem dX47_take_52 : decode cX47_take 52 = .ok (.iinc 2 1, 3) := by decide +kernel
theorem dX47_take_55 : decode cX47_take 55 = .ok (.goto (-28), 3) := by decide +kernel
theorem dX47_take_58 : decode cX47_take 58 = .ok (.return_, 1) := by decide +kernel
abbrev cX47_turn : ByteArray := prog_80_method_25_code
def yX47_turn : MethodName := ⟨RX47, "turn", "(I)Z"⟩
theorem dX47_turn_0 : decode cX47_turn 0 = .ok (.iload_n 1, 1) := by decide +kernel
theorem dX47_turn_1 : decode cX47_turn 1 = .ok (.iconst 1, 1) := by decide +kernel
theorem dX47_turn_2 : decode cX47_turn 2 = .ok (.isub, 1) := by decide +kernel
theorem dX47_turn_3 : decode cX47_turn 3 = .ok (.istore_n 2, 1) := by decide +kernel
theorem dX47_turn_4 : decode cX47_turn 4 = .ok (.iload_n 2, 1) := by decide +kernel
theorem dX47_turn_5 : decode cX47_turn 5 = .ok (.iconst 1, 1) := by decide +kernel
theorem dX47_turn_6 : decode cX47_turn 6 = .ok (.if_icmp .lt 26, 3) := by decide +kernel
theorem dX47_turn_9 : decode cX47_turn 9 = .ok (.aload_n 0, 1) := by decide +kernel
theorem dX47_turn_10 : decode cX47_turn 10 = .ok (.getfield 167, 3) := by decide +kernel
theorem dX47_turn_13 : decode cX47_turn 13 = .ok (.iload_n 2, 1) := by decide +kernel
theorem dX47_turn_14 : decode cX47_turn 14 = .ok (.iaload, 1) := by decide +kernel
theorem dX47_turn_15 : decode cX47_turn 15 = .ok (.aload_n 0, 1) := by decide +kernel
theorem dX47_turn_16 : decode cX47_turn 16 = .ok (.getfield 167, 3) := by decide +kernel
theorem dX47_turn_19 : decode cX47_turn 19 = .ok (.iload_n 2, 1) := by decide +kernel
theorem dX47_turn_20 : decode cX47_turn 20 = .ok (.iconst 1, 1) := by decide +kernel
theorem dX47_turn_21 : decode cX47_turn 21 = .ok (.iadd, 1) := by decide +kernel
theorem dX47_turn_22 : decode cX47_turn 22 = .ok (.iaload, 1) := by decide +kernel
theorem dX47_turn_23 : decode cX47_turn 23 = .ok (.if_icmp .le 9, 3) := by decide +kernel
theorem dX47_turn_26 : decode cX47_turn 26 = .ok (.iinc 2 (-1), 3) := by decide +kernel
theorem dX47_turn_29 : decode cX47_turn 29 = .ok (.goto (-25), 3) := by decide +kernel
theorem dX47_turn_32 : decode cX47_turn 32 = .ok (.iload_n 2, 1) := by decide +kernel
theorem dX47_turn_33 : decode cX47_turn 33 = .ok (.iconst 1, 1) := by decide +kernel
theorem dX47_turn_34 : decode cX47_turn 34 = .ok (.if_icmp .ge 5, 3) := by decide +kernel
theorem dX47_turn_37 : decode cX47_turn 37 = .ok (.iconst 0, 1) := by decide +kernel
theorem dX47_turn_38 : decode cX47_turn 38 = .ok (.ireturn, 1) := by decide +kernel
theorem dX47_turn_39 : decode cX47_turn 39 = .ok (.iload_n 1, 1) := by decide +kernel
theorem dX47_turn_40 : decode cX47_turn 40 = .ok (.istore_n 3, 1) := by decide +kernel
theorem dX47_turn_41 : decode cX47_turn 41 = .ok (.aload_n 0, 1) := by decide +kernel
theorem dX47_turn_42 : decode cX47_turn 42 = .ok (.getfield 167, 3) := by decide +kernel
theorem dX47_turn_45 : decode cX47_turn 45 = .ok (.iload_n 3, 1) := by decide +kernel
theorem dX47_turn_46 : decode cX47_turn 46 = .ok (.iaload, 1) := by decide +kernel
theorem dX47_turn_47 : decode cX47_turn 47 = .ok (.aload_n 0, 1) := by decide +kernel
theorem dX47_turn_48 : decode cX47_turn 48 = .ok (.getfield 167, 3) := by decide +kernel
theorem dX47_turn_51 : decode cX47_turn 51 = .ok (.iload_n 2, 1) := by decide +kernel
theorem dX47_turn_52 : decode cX47_turn 52 = .ok (.iaload, 1) := by decide +kernel
theorem dX47_turn_53 : decode cX47_turn 53 = .ok (.if_icmp .ge 9, 3) := by decide +kernel
theorem dX47_turn_56 : decode cX47_turn 56 = .ok (.iinc 3 (-1), 3) := by decide +kernel
theorem dX47_turn_59 : decode cX47_turn 59 = .ok (.goto (-18), 3) := by decide +kernel
theorem dX47_turn_62 : decode cX47_turn 62 = .ok (.aload_n 0, 1) := by decide +kernel
theorem dX47_turn_63 : decode cX47_turn 63 = .ok (.iload_n 2, 1) := by decide +kernel
theorem dX47_turn_64 : decode cX47_turn 64 = .ok (.iload_n 3, 1) := by decide +kernel
theorem dX47_turn_65 : decode cX47_turn 65 = .ok (.invokevirtual 297, 3) := by decide +kernel
theorem dX47_turn_68 : decode cX47_turn 68 = .ok (.iconst 1, 1) := by decide +kernel
theorem dX47_turn_69 : decode cX47_turn 69 = .ok (.istore 4, 2) := by decide +kernel
theorem dX47_turn_71 : decode cX47_turn 71 = .ok (.iload_n 2, 1) := by decide +kernel
theorem dX47_turn_72 : decode cX47_turn 72 = .ok (.iload 4, 2) := by decide +kernel
theorem dX47_turn_74 : decode cX47_turn 74 = .ok (.iadd, 1) := by decide +kernel
theorem dX47_turn_75 : decode cX47_turn 75 = .ok (.iload_n 1, 1) := by decide +kernel
theorem dX47_turn_76 : decode cX47_turn 76 = .ok (.iconst 1, 1) := by decide +kernel
theorem dX47_turn_77 : decode cX47_turn 77 = .ok (.iadd, 1) := by decide +kernel
theorem dX47_turn_78 : decode cX47_turn 78 = .ok (.iload 4, 2) := by decide +kernel
theorem dX47_turn_80 : decode cX47_turn 80 = .ok (.isub, 1) := by decide +kernel
theorem dX47_turn_81 : decode cX47_turn 81 = .ok (.if_icmp .ge 23, 3) := by decide +kernel
theorem dX47_turn_84 : decode cX47_turn 84 = .ok (.aload_n 0, 1) := by decide +kernel
theorem dX47_turn_85 : decode cX47_turn 85 = .ok (.iload_n 2, 1) := by decide +kernel
theorem dX47_turn_86 : decode cX47_turn 86 = .ok (.iload 4, 2) := by decide +kernel
theorem dX47_turn_88 : decode cX47_turn 88 = .ok (.iadd, 1) := by decide +kernel
theorem dX47_turn_89 : decode cX47_turn 89 = .ok (.iload_n 1, 1) := by decide +kernel
theorem dX47_turn_90 : decode cX47_turn 90 = .ok (.iconst 1, 1) := by decide +kernel
theorem dX47_turn_91 : decode cX47_turn 91 = .ok (.iadd, 1) := by decide +kernel
theorem dX47_turn_92 : decode cX47_turn 92 = .ok (.iload 4, 2) := by decide +kernel
theorem dX47_turn_94 : decode cX47_turn 94 = .ok (.isub, 1) := by decide +kernel
theorem dX47_turn_95 : decode cX47_turn 95 = .ok (.invokevirtual 297, 3) := by decide +kernel
theorem dX47_turn_98 : decode cX47_turn 98 = .ok (.iinc 4 1, 3) := by decide +kernel
theorem dX47_turn_101 : decode cX47_turn 101 = .ok (.goto (-30), 3) := by decide +kernel
theorem dX47_turn_104 : decode cX47_turn 104 = .ok (.iconst 1, 1) := by decide +kernel
theorem dX47_turn_105 : decode cX47_turn 105 = .ok (.ireturn, 1) := by decide +kernel
abbrev cX47_change : ByteArray := prog_80_method_26_code
def yX47_change : MethodName := ⟨RX47, "change", "(II)V"⟩
theorem dX47_change_0 : decode cX47_change 0 = .ok (.aload_n 0, 1) := by decide +kernel
theorem dX47_change_1 : decode cX47_change 1 = .ok (.getfield 167, 3) := by decide +kernel
theorem dX47_change_4 : decode cX47_change 4 = .ok (.iload_n 1, 1) := by decide +kernel
theorem dX47_change_5 : decode cX47_change 5 = .ok (.iaload, 1) := by decide +kernel
theorem dX47_change_6 : decode cX47_change 6 = .ok (.istore_n 3, 1) := by decide +kernel
theorem dX47_change_7 : decode cX47_change 7 = .ok (.aload_n 0, 1) := by decide +kernel
theorem dX47_change_8 : decode cX47_change 8 = .ok (.getfield 167, 3) := by decide +kernel
theorem dX47_change_11 : decode cX47_change 11 = .ok (.iload_n 1, 1) := by decide +kernel
theorem dX47_change_12 : decode cX47_change 12 = .ok (.aload_n 0, 1) := by decide +kernel
theorem dX47_change_13 : decode cX47_change 13 = .ok (.getfield 167, 3) := by decide +kernel
theorem dX47_change_16 : decode cX47_change 16 = .ok (.iload_n 2, 1) := by decide +kernel
theorem dX47_change_17 : decode cX47_change 17 = .ok (.iaload, 1) := by decide +kernel
theorem dX47_change_18 : decode cX47_change 18 = .ok (.iastore, 1) := by decide +kernel
theorem dX47_change_19 : decode cX47_change 19 = .ok (.aload_n 0, 1) := by decide +kernel
theorem dX47_change_20 : decode cX47_change 20 = .ok (.getfield 167, 3) := by decide +kernel
theorem dX47_change_23 : decode cX47_change 23 = .ok (.iload_n 2, 1) := by decide +kernel
theorem dX47_change_24 : decode cX47_change 24 = .ok (.iload_n 3, 1) := by decide +kernel
theorem dX47_change_25 : decode cX47_change 25 = .ok (.iastore, 1) := by decide +kernel
theorem dX47_change_26 : decode cX47_change 26 = .ok (.return_, 1) := by decide +kernel
abbrev cX47_isomorphic : ByteArray := prog_80_method_43_code
def yX47_isomorphic : MethodName := ⟨RX47, "isomorphic", "(I)I"⟩
theorem dX47_isomorphic_0 : decode cX47_isomorphic 0 = .ok (.aload_n 0, 1) := by decide +kernel
theorem dX47_isomorphic_1 : decode cX47_isomorphic 1 = .ok (.iconst 0, 1) := by decide +kernel
theorem dX47_isomorphic_2 : decode cX47_isomorphic 2 = .ok (.putfield 1, 3) := by decide +kernel
theorem dX47_isomorphic_5 : decode cX47_isomorphic 5 = .ok (.aload_n 0, 1) := by decide +kernel
theorem dX47_isomorphic_6 : decode cX47_isomorphic 6 = .ok (.iload_n 1, 1) := by decide +kernel
theorem dX47_isomorphic_7 : decode cX47_isomorphic 7 = .ok (.invokevirtual 346, 3) := by decide +kernel
theorem dX47_isomorphic_10 : decode cX47_isomorphic 10 = .ok (.istore_n 2, 1) := by decide +kernel
theorem dX47_isomorphic_11 : decode cX47_isomorphic 11 = .ok (.iload_n 2, 1) := by decide +kernel
theorem dX47_isomorphic_12 : decode cX47_isomorphic 12 = .ok (.ifCond .le 7, 3) := by decide +kernel
theorem dX47_isomorphic_15 : decode cX47_isomorphic 15 = .ok (.iconst 1, 1) := by decide +kernel
theorem dX47_isomorphic_16 : decode cX47_isomorphic 16 = .ok (.goto 4, 3) := by decide +kernel
theorem dX47_isomorphic_19 : decode cX47_isomorphic 19 = .ok (.iload_n 2, 1) := by decide +kernel
theorem dX47_isomorphic_20 : decode cX47_isomorphic 20 = .ok (.ireturn, 1) := by decide +kernel
abbrev cX47_ways : ByteArray := prog_80_method_42_code
def yX47_ways : MethodName := ⟨RX47, "ways", "(I)I"⟩
theorem dX47_ways_0 : decode cX47_ways 0 = .ok (.aload_n 0, 1) := by decide +kernel
theorem dX47_ways_1 : decode cX47_ways 1 = .ok (.iconst 0, 1) := by decide +kernel
theorem dX47_ways_2 : decode cX47_ways 2 = .ok (.putfield 1, 3) := by decide +kernel
theorem dX47_ways_5 : decode cX47_ways 5 = .ok (.aload_n 0, 1) := by decide +kernel
theorem dX47_ways_6 : decode cX47_ways 6 = .ok (.iload_n 1, 1) := by decide +kernel
theorem dX47_ways_7 : decode cX47_ways 7 = .ok (.invokevirtual 340, 3) := by decide +kernel
theorem dX47_ways_10 : decode cX47_ways 10 = .ok (.ifCond .ne 5, 3) := by decide +kernel
theorem dX47_ways_13 : decode cX47_ways 13 = .ok (.iconst (-1), 1) := by decide +kernel
theorem dX47_ways_14 : decode cX47_ways 14 = .ok (.ireturn, 1) := by decide +kernel
theorem dX47_ways_15 : decode cX47_ways 15 = .ok (.aload_n 0, 1) := by decide +kernel
theorem dX47_ways_16 : decode cX47_ways 16 = .ok (.getfield 145, 3) := by decide +kernel
theorem dX47_ways_19 : decode cX47_ways 19 = .ok (.bipush 8, 2) := by decide +kernel
theorem dX47_ways_21 : decode cX47_ways 21 = .ok (.iaload, 1) := by decide +kernel
theorem dX47_ways_22 : decode cX47_ways 22 = .ok (.istore_n 2, 1) := by decide +kernel
theorem dX47_ways_23 : decode cX47_ways 23 = .ok (.aload_n 0, 1) := by decide +kernel
theorem dX47_ways_24 : decode cX47_ways 24 = .ok (.getfield 145, 3) := by decide +kernel
theorem dX47_ways_27 : decode cX47_ways 27 = .ok (.iload_n 1, 1) := by decide +kernel
theorem dX47_ways_28 : decode cX47_ways 28 = .ok (.iaload, 1) := by decide +kernel
theorem dX47_ways_29 : decode cX47_ways 29 = .ok (.iload_n 2, 1) := by decide +kernel
theorem dX47_ways_30 : decode cX47_ways 30 = .ok (.if_icmp .ne 19, 3) := by decide +kernel
theorem dX47_ways_33 : decode cX47_ways 33 = .ok (.aload_n 0, 1) := by decide +kernel
theorem dX47_ways_34 : decode cX47_ways 34 = .ok (.getfield 149, 3) := by decide +kernel
theorem dX47_ways_37 : decode cX47_ways 37 = .ok (.iload_n 1, 1) := by decide +kernel
theorem dX47_ways_38 : decode cX47_ways 38 = .ok (.iaload, 1) := by decide +kernel
theorem dX47_ways_39 : decode cX47_ways 39 = .ok (.aload_n 0, 1) := by decide +kernel
theorem dX47_ways_40 : decode cX47_ways 40 = .ok (.getfield 149, 3) := by decide +kernel
theorem dX47_ways_43 : decode cX47_ways 43 = .ok (.bipush 8, 2) := by decide +kernel
theorem dX47_ways_45 : decode cX47_ways 45 = .ok (.iaload, 1) := by decide +kernel
theorem dX47_ways_46 : decode cX47_ways 46 = .ok (.if_icmp .eq 5, 3) := by decide +kernel
theorem dX47_ways_49 : decode cX47_ways 49 = .ok (.iconst 0, 1) := by decide +kernel
theorem dX47_ways_50 : decode cX47_ways 50 = .ok (.ireturn, 1) := by decide +kernel
theorem dX47_ways_51 : decode cX47_ways 51 = .ok (.iconst 0, 1) := by decide +kernel
theorem dX47_ways_52 : decode cX47_ways 52 = .ok (.istore_n 3, 1) := by decide +kernel
theorem dX47_ways_53 : decode cX47_ways 53 = .ok (.aload_n 0, 1) := by decide +kernel
theorem dX47_ways_54 : decode cX47_ways 54 = .ok (.iload_n 2, 1) := by decide +kernel
theorem dX47_ways_55 : decode cX47_ways 55 = .ok (.invokevirtual 312, 3) := by decide +kernel
theorem dX47_ways_58 : decode cX47_ways 58 = .ok (.iconst 1, 1) := by decide +kernel
theorem dX47_ways_59 : decode cX47_ways 59 = .ok (.istore 4, 2) := by decide +kernel
theorem dX47_ways_61 : decode cX47_ways 61 = .ok (.iload 4, 2) := by decide +kernel
theorem dX47_ways_63 : decode cX47_ways 63 = .ok (.ifCond .eq 29, 3) := by decide +kernel
theorem dX47_ways_66 : decode cX47_ways 66 = .ok (.iload_n 3, 1) := by decide +kernel
theorem dX47_ways_67 : decode cX47_ways 67 = .ok (.aload_n 0, 1) := by decide +kernel
theorem dX47_ways_68 : decode cX47_ways 68 = .ok (.iload_n 1, 1) := by decide +kernel
theorem dX47_ways_69 : decode cX47_ways 69 = .ok (.invokevirtual 343, 3) := by decide +kernel
theorem dX47_ways_72 : decode cX47_ways 72 = .ok (.ifCond .eq 7, 3) := by decide +kernel
theorem dX47_ways_75 : decode cX47_ways 75 = .ok (.iconst 1, 1) := by decide +kernel
theorem dX47_ways_76 : decode cX47_ways 76 = .ok (.goto 4, 3) := by decide +kernel
theorem dX47_ways_79 : decode cX47_ways 79 = .ok (.iconst 0, 1) := by decide +kernel
theorem dX47_ways_80 : decode cX47_ways 80 = .ok (.iadd, 1) := by decide +kernel
theorem dX47_ways_81 : decode cX47_ways 81 = .ok (.istore_n 3, 1) := by decide +kernel
theorem dX47_ways_82 : decode cX47_ways 82 = .ok (.aload_n 0, 1) := by decide +kernel
theorem dX47_ways_83 : decode cX47_ways 83 = .ok (.iload_n 2, 1) := by decide +kernel
theorem dX47_ways_84 : decode cX47_ways 84 = .ok (.invokevirtual 328, 3) := by decide +kernel
theorem dX47_ways_87 : decode cX47_ways 87 = .ok (.istore 4, 2) := by decide +kernel
theorem dX47_ways_89 : decode cX47_ways 89 = .ok (.goto (-28), 3) := by decide +kernel
theorem dX47_ways_92 : decode cX47_ways 92 = .ok (.iload_n 3, 1) := by decide +kernel
theorem dX47_ways_93 : decode cX47_ways 93 = .ok (.ireturn, 1) := by decide +kernel
abbrev cX47_isKept : ByteArray := prog_80_method_40_code
def yX47_isKept : MethodName := ⟨RX47, "isKept", "(I)Z"⟩
theorem dX47_isKept_0 : decode cX47_isKept 0 = .ok (.iload_n 1, 1) := by decide +kernel
theorem dX47_isKept_1 : decode cX47_isKept 1 = .ok (.ifCond .lt 15, 3) := by decide +kernel
theorem dX47_isKept_4 : decode cX47_isKept 4 = .ok (.iload_n 1, 1) := by decide +kernel
theorem dX47_isKept_5 : decode cX47_isKept 5 = .ok (.aload_n 0, 1) := by decide +kernel
theorem dX47_isKept_6 : decode cX47_isKept 6 = .ok (.getfield 337, 3) := by decide +kernel
theorem dX47_isKept_9 : decode cX47_isKept 9 = .ok (.if_icmp .ge 7, 3) := by decide +kernel
theorem dX47_isKept_12 : decode cX47_isKept 12 = .ok (.iconst 1, 1) := by decide +kernel
theorem dX47_isKept_13 : decode cX47_isKept 13 = .ok (.goto 4, 3) := by decide +kernel
theorem dX47_isKept_16 : decode cX47_isKept 16 = .ok (.iconst 0, 1) := by decide +kernel
theorem dX47_isKept_17 : decode cX47_isKept 17 = .ok (.ireturn, 1) := by decide +kernel
abbrev cX47_becomes : ByteArray := prog_80_method_41_code
def yX47_becomes : MethodName := ⟨RX47, "becomes", "(I)Z"⟩
theorem dX47_becomes_0 : decode cX47_becomes 0 = .ok (.iconst 0, 1) := by decide +kernel
theorem dX47_becomes_1 : decode cX47_becomes 1 = .ok (.istore_n 2, 1) := by decide +kernel
theorem dX47_becomes_2 : decode cX47_becomes 2 = .ok (.iload_n 2, 1) := by decide +kernel
theorem dX47_becomes_3 : decode cX47_becomes 3 = .ok (.aload_n 0, 1) := by decide +kernel
theorem dX47_becomes_4 : decode cX47_becomes 4 = .ok (.getfield 149, 3) := by decide +kernel
theorem dX47_becomes_7 : decode cX47_becomes 7 = .ok (.bipush 8, 2) := by decide +kernel
theorem dX47_becomes_9 : decode cX47_becomes 9 = .ok (.iaload, 1) := by decide +kernel
theorem dX47_becomes_10 : decode cX47_becomes 10 = .ok (.if_icmp .ge 60, 3) := by decide +kernel
theorem dX47_becomes_13 : decode cX47_becomes 13 = .ok (.bipush 8, 2) := by decide +kernel
theorem dX47_becomes_15 : decode cX47_becomes 15 = .ok (.iload_n 2, 1) := by decide +kernel
theorem dX47_becomes_16 : decode cX47_becomes 16 = .ok (.invokestatic 245, 3) := by decide +kernel
theorem dX47_becomes_19 : decode cX47_becomes 19 = .ok (.istore_n 3, 1) := by decide +kernel
theorem dX47_becomes_20 : decode cX47_becomes 20 = .ok (.aload_n 0, 1) := by decide +kernel
theorem dX47_becomes_21 : decode cX47_becomes 21 = .ok (.iload_n 1, 1) := by decide +kernel
theorem dX47_becomes_22 : decode cX47_becomes 22 = .ok (.aload_n 0, 1) := by decide +kernel
theorem dX47_becomes_23 : decode cX47_becomes 23 = .ok (.aload_n 0, 1) := by decide +kernel
theorem dX47_becomes_24 : decode cX47_becomes 24 = .ok (.getfield 152, 3) := by decide +kernel
theorem dX47_becomes_27 : decode cX47_becomes 27 = .ok (.iload_n 3, 1) := by decide +kernel
theorem dX47_becomes_28 : decode cX47_becomes 28 = .ok (.iaload, 1) := by decide +kernel
theorem dX47_becomes_29 : decode cX47_becomes 29 = .ok (.invokevirtual 300, 3) := by decide +kernel
theorem dX47_becomes_32 : decode cX47_becomes 32 = .ok (.aload_n 0, 1) := by decide +kernel
theorem dX47_becomes_33 : decode cX47_becomes 33 = .ok (.aload_n 0, 1) := by decide +kernel
theorem dX47_becomes_34 : decode cX47_becomes 34 = .ok (.getfield 152, 3) := by decide +kernel
theorem dX47_becomes_37 : decode cX47_becomes 37 = .ok (.iload_n 3, 1) := by decide +kernel
theorem dX47_becomes_38 : decode cX47_becomes 38 = .ok (.iconst 1, 1) := by decide +kernel
theorem dX47_becomes_39 : decode cX47_becomes 39 = .ok (.iadd, 1) := by decide +kernel
theorem dX47_becomes_40 : decode cX47_becomes 40 = .ok (.iaload, 1) := by decide +kernel
theorem dX47_becomes_41 : decode cX47_becomes 41 = .ok (.invokevirtual 300, 3) := by decide +kernel
theorem dX47_becomes_44 : decode cX47_becomes 44 = .ok (.aload_n 0, 1) := by decide +kernel
theorem dX47_becomes_45 : decode cX47_becomes 45 = .ok (.aload_n 0, 1) := by decide +kernel
theorem dX47_becomes_46 : decode cX47_becomes 46 = .ok (.getfield 152, 3) := by decide +kernel
theorem dX47_becomes_49 : decode cX47_becomes 49 = .ok (.iload_n 3, 1) := by decide +kernel
theorem dX47_becomes_50 : decode cX47_becomes 50 = .ok (.iconst 2, 1) := by decide +kernel
theorem dX47_becomes_51 : decode cX47_becomes 51 = .ok (.iadd, 1) := by decide +kernel
theorem dX47_becomes_52 : decode cX47_becomes 52 = .ok (.iaload, 1) := by decide +kernel
theorem dX47_becomes_53 : decode cX47_becomes 53 = .ok (.invokevirtual 300, 3) := by decide +kernel
theorem dX47_becomes_56 : decode cX47_becomes 56 = .ok (.invokevirtual 253, 3) := by decide +kernel
theorem dX47_becomes_59 : decode cX47_becomes 59 = .ok (.ifCond .ge 5, 3) := by decide +kernel
theorem dX47_becomes_62 : decode cX47_becomes 62 = .ok (.iconst 0, 1) := by decide +kernel
theorem dX47_becomes_63 : decode cX47_becomes 63 = .ok (.ireturn, 1) := by decide +kernel
theorem dX47_becomes_64 : decode cX47_becomes 64 = .ok (.iinc 2 1, 3) := by decide +kernel
theorem dX47_becomes_67 : decode cX47_becomes 67 = .ok (.goto (-65), 3) := by decide +kernel
theorem dX47_becomes_70 : decode cX47_becomes 70 = .ok (.iconst 1, 1) := by decide +kernel
theorem dX47_becomes_71 : decode cX47_becomes 71 = .ok (.ireturn, 1) := by decide +kernel
abbrev cX47_triples : ByteArray := prog_80_method_45_code
def yX47_triples : MethodName := ⟨RX47, "triples", "()I"⟩
theorem dX47_triples_0 : decode cX47_triples 0 = .ok (.aload_n 0, 1) := by decide +kernel
theorem dX47_triples_1 : decode cX47_triples 1 = .ok (.iconst 0, 1) := by decide +kernel
theorem dX47_triples_2 : decode cX47_triples 2 = .ok (.putfield 1, 3) := by decide +kernel
theorem dX47_triples_5 : decode cX47_triples 5 = .ok (.aload_n 0, 1) := by decide +kernel
theorem dX47_triples_6 : decode cX47_triples 6 = .ok (.getfield 149, 3) := by decide +kernel
theorem dX47_triples_9 : decode cX47_triples 9 = .ok (.bipush 8, 2) := by decide +kernel
theorem dX47_triples_11 : decode cX47_triples 11 = .ok (.iaload, 1) := by decide +kernel
theorem dX47_triples_12 : decode cX47_triples 12 = .ok (.ireturn, 1) := by decide +kernel
abbrev cX47_drop : ByteArray := prog_80_method_14_code
def yX47_drop : MethodName := ⟨RX47, "drop", "(III)I"⟩
theorem dX47_drop_0 : decode cX47_drop 0 = .ok (.aload_n 0, 1) := by decide +kernel
theorem dX47_drop_1 : decode cX47_drop 1 = .ok (.iconst 0, 1) := by decide +kernel
theorem dX47_drop_2 : decode cX47_drop 2 = .ok (.putfield 1, 3) := by decide +kernel
theorem dX47_drop_5 : decode cX47_drop 5 = .ok (.aload_n 0, 1) := by decide +kernel
theorem dX47_drop_6 : decode cX47_drop 6 = .ok (.bipush 8, 2) := by decide +kernel
theorem dX47_drop_8 : decode cX47_drop 8 = .ok (.iload_n 1, 1) := by decide +kernel
theorem dX47_drop_9 : decode cX47_drop 9 = .ok (.iload_n 2, 1) := by decide +kernel
theorem dX47_drop_10 : decode cX47_drop 10 = .ok (.iload_n 3, 1) := by decide +kernel
theorem dX47_drop_11 : decode cX47_drop 11 = .ok (.invokevirtual 253, 3) := by decide +kernel
theorem dX47_drop_14 : decode cX47_drop 14 = .ok (.istore 4, 2) := by decide +kernel
theorem dX47_drop_16 : decode cX47_drop 16 = .ok (.iload 4, 2) := by decide +kernel
theorem dX47_drop_18 : decode cX47_drop 18 = .ok (.ifCond .ge 5, 3) := by decide +kernel
theorem dX47_drop_21 : decode cX47_drop 21 = .ok (.iconst 0, 1) := by decide +kernel
theorem dX47_drop_22 : decode cX47_drop 22 = .ok (.ireturn, 1) := by decide +kernel
theorem dX47_drop_23 : decode cX47_drop 23 = .ok (.aload_n 0, 1) := by decide +kernel
theorem dX47_drop_24 : decode cX47_drop 24 = .ok (.getfield 149, 3) := by decide +kernel
theorem dX47_drop_27 : decode cX47_drop 27 = .ok (.bipush 8, 2) := by decide +kernel
theorem dX47_drop_29 : decode cX47_drop 29 = .ok (.dup2, 1) := by decide +kernel
theorem dX47_drop_30 : decode cX47_drop 30 = .ok (.iaload, 1) := by decide +kernel
theorem dX47_drop_31 : decode cX47_drop 31 = .ok (.iconst 1, 1) := by decide +kernel
theorem dX47_drop_32 : decode cX47_drop 32 = .ok (.isub, 1) := by decide +kernel
theorem dX47_drop_33 : decode cX47_drop 33 = .ok (.iastore, 1) := by decide +kernel
theorem dX47_drop_34 : decode cX47_drop 34 = .ok (.bipush 8, 2) := by decide +kernel
theorem dX47_drop_36 : decode cX47_drop 36 = .ok (.iload 4, 2) := by decide +kernel
theorem dX47_drop_38 : decode cX47_drop 38 = .ok (.invokestatic 245, 3) := by decide +kernel
theorem dX47_drop_41 : decode cX47_drop 41 = .ok (.istore 5, 2) := by decide +kernel
theorem dX47_drop_43 : decode cX47_drop 43 = .ok (.iload 5, 2) := by decide +kernel
theorem dX47_drop_45 : decode cX47_drop 45 = .ok (.bipush 8, 2) := by decide +kernel
theorem dX47_drop_47 : decode cX47_drop 47 = .ok (.aload_n 0, 1) := by decide +kernel
theorem dX47_drop_48 : decode cX47_drop 48 = .ok (.getfield 149, 3) := by decide +kernel
theorem dX47_drop_51 : decode cX47_drop 51 = .ok (.bipush 8, 2) := by decide +kernel
theorem dX47_drop_53 : decode cX47_drop 53 = .ok (.iaload, 1) := by decide +kernel
theorem dX47_drop_54 : decode cX47_drop 54 = .ok (.invokestatic 245, 3) := by decide +kernel
theorem dX47_drop_57 : decode cX47_drop 57 = .ok (.if_icmp .ge 25, 3) := by decide +kernel
theorem dX47_drop_60 : decode cX47_drop 60 = .ok (.aload_n 0, 1) := by decide +kernel
theorem dX47_drop_61 : decode cX47_drop 61 = .ok (.getfield 152, 3) := by decide +kernel
theorem dX47_drop_64 : decode cX47_drop 64 = .ok (.iload 5, 2) := by decide +kernel
theorem dX47_drop_66 : decode cX47_drop 66 = .ok (.aload_n 0, 1) := by decide +kernel
theorem dX47_drop_67 : decode cX47_drop 67 = .ok (.getfield 152, 3) := by decide +kernel
theorem dX47_drop_70 : decode cX47_drop 70 = .ok (.iload 5, 2) := by decide +kernel
theorem dX47_drop_72 : decode cX47_drop 72 = .ok (.iconst 3, 1) := by decide +kernel
theorem dX47_drop_73 : decode cX47_drop 73 = .ok (.iadd, 1) := by decide +kernel
theorem dX47_drop_74 : decode cX47_drop 74 = .ok (.iaload, 1) := by decide +kernel
theorem dX47_drop_75 : decode cX47_drop 75 = .ok (.iastore, 1) := by decide +kernel
theorem dX47_drop_76 : decode cX47_drop 76 = .ok (.iinc 5 1, 3) := by decide +kernel
theorem dX47_drop_79 : decode cX47_drop 79 = .ok (.goto (-36), 3) := by decide +kernel
theorem dX47_drop_82 : decode cX47_drop 82 = .ok (.aload_n 0, 1) := by decide +kernel
theorem dX47_drop_83 : decode cX47_drop 83 = .ok (.iconst 0, 1) := by decide +kernel
theorem dX47_drop_84 : decode cX47_drop 84 = .ok (.putfield 241, 3) := by decide +kernel
theorem dX47_drop_87 : decode cX47_drop 87 = .ok (.iconst 1, 1) := by decide +kernel
theorem dX47_drop_88 : decode cX47_drop 88 = .ok (.ireturn, 1) := by decide +kernel
abbrev cX47_named : ByteArray := prog_80_method_36_code
def yX47_named : MethodName := ⟨RX47, "named", "(I)I"⟩
theorem dX47_named_0 : decode cX47_named 0 = .ok (.aload_n 0, 1) := by decide +kernel
theorem dX47_named_1 : decode cX47_named 1 = .ok (.iconst 0, 1) := by decide +kernel
theorem dX47_named_2 : decode cX47_named 2 = .ok (.putfield 1, 3) := by decide +kernel
theorem dX47_named_5 : decode cX47_named 5 = .ok (.iload_n 1, 1) := by decide +kernel
theorem dX47_named_6 : decode cX47_named 6 = .ok (.iconst 1, 1) := by decide +kernel
theorem dX47_named_7 : decode cX47_named 7 = .ok (.if_icmp .lt 20, 3) := by decide +kernel
theorem dX47_named_10 : decode cX47_named 10 = .ok (.iload_n 1, 1) := by decide +kernel
theorem dX47_named_11 : decode cX47_named 11 = .ok (.aload_n 0, 1) := by decide +kernel
theorem dX47_named_12 : decode cX47_named 12 = .ok (.getfield 331, 3) := by decide +kernel
theorem dX47_named_15 : decode cX47_named 15 = .ok (.if_icmp .gt 12, 3) := by decide +kernel
theorem dX47_named_18 : decode cX47_named 18 = .ok (.aload_n 0, 1) := by decide +kernel
theorem dX47_named_19 : decode cX47_named 19 = .ok (.getfield 173, 3) := by decide +kernel
theorem dX47_named_22 : decode cX47_named 22 = .ok (.iload_n 1, 1) := by decide +kernel
theorem dX47_named_23 : decode cX47_named 23 = .ok (.iaload, 1) := by decide +kernel
theorem dX47_named_24 : decode cX47_named 24 = .ok (.goto 4, 3) := by decide +kernel
theorem dX47_named_27 : decode cX47_named 27 = .ok (.iconst (-1), 1) := by decide +kernel
theorem dX47_named_28 : decode cX47_named 28 = .ok (.ireturn, 1) := by decide +kernel
abbrev cX47_form : ByteArray := prog_80_method_37_code
def yX47_form : MethodName := ⟨RX47, "form", "(II)I"⟩
theorem dX47_form_0 : decode cX47_form 0 = .ok (.aload_n 0, 1) := by decide +kernel
theorem dX47_form_1 : decode cX47_form 1 = .ok (.iconst 0, 1) := by decide +kernel
theorem dX47_form_2 : decode cX47_form 2 = .ok (.putfield 1, 3) := by decide +kernel
theorem dX47_form_5 : decode cX47_form 5 = .ok (.iload_n 1, 1) := by decide +kernel
theorem dX47_form_6 : decode cX47_form 6 = .ok (.ifCond .lt 20, 3) := by decide +kernel
theorem dX47_form_9 : decode cX47_form 9 = .ok (.iload_n 1, 1) := by decide +kernel
theorem dX47_form_10 : decode cX47_form 10 = .ok (.aload_n 0, 1) := by decide +kernel
theorem dX47_form_11 : decode cX47_form 11 = .ok (.getfield 334, 3) := by decide +kernel
theorem dX47_form_14 : decode cX47_form 14 = .ok (.if_icmp .ge 12, 3) := by decide +kernel
theorem dX47_form_17 : decode cX47_form 17 = .ok (.iload_n 2, 1) := by decide +kernel
theorem dX47_form_18 : decode cX47_form 18 = .ok (.ifCond .lt 8, 3) := by decide +kernel
theorem dX47_form_21 : decode cX47_form 21 = .ok (.iload_n 2, 1) := by decide +kernel
theorem dX47_form_22 : decode cX47_form 22 = .ok (.iconst 2, 1) := by decide +kernel
theorem dX47_form_23 : decode cX47_form 23 = .ok (.if_icmp .le 7, 3) := by decide +kernel
theorem dX47_form_26 : decode cX47_form 26 = .ok (.iconst 0, 1) := by decide +kernel
theorem dX47_form_27 : decode cX47_form 27 = .ok (.goto 13, 3) := by decide +kernel
theorem dX47_form_30 : decode cX47_form 30 = .ok (.aload_n 0, 1) := by decide +kernel
theorem dX47_form_31 : decode cX47_form 31 = .ok (.getfield 176, 3) := by decide +kernel
theorem dX47_form_34 : decode cX47_form 34 = .ok (.iconst 3, 1) := by decide +kernel
theorem dX47_form_35 : decode cX47_form 35 = .ok (.iload_n 1, 1) := by decide +kernel
theorem dX47_form_36 : decode cX47_form 36 = .ok (.imul, 1) := by decide +kernel
theorem dX47_form_37 : decode cX47_form 37 = .ok (.iload_n 2, 1) := by decide +kernel
theorem dX47_form_38 : decode cX47_form 38 = .ok (.iadd, 1) := by decide +kernel
theorem dX47_form_39 : decode cX47_form 39 = .ok (.iaload, 1) := by decide +kernel
theorem dX47_form_40 : decode cX47_form 40 = .ok (.ireturn, 1) := by decide +kernel
abbrev cX47_hash : ByteArray := prog_80_method_22_code
def yX47_hash : MethodName := ⟨RX47, "hash", "(II)I"⟩
theorem dX47_hash_0 : decode cX47_hash 0 = .ok (.aload_n 0, 1) := by decide +kernel
theorem dX47_hash_1 : decode cX47_hash 1 = .ok (.iconst 0, 1) := by decide +kernel
theorem dX47_hash_2 : decode cX47_hash 2 = .ok (.putfield 1, 3) := by decide +kernel
theorem dX47_hash_5 : decode cX47_hash 5 = .ok (.aload_n 0, 1) := by decide +kernel
theorem dX47_hash_6 : decode cX47_hash 6 = .ok (.invokevirtual 294, 3) := by decide +kernel
theorem dX47_hash_9 : decode cX47_hash 9 = .ok (.iload_n 1, 1) := by decide +kernel
theorem dX47_hash_10 : decode cX47_hash 10 = .ok (.iconst 1, 1) := by decide +kernel
theorem dX47_hash_11 : decode cX47_hash 11 = .ok (.if_icmp .lt 24, 3) := by decide +kernel
theorem dX47_hash_14 : decode cX47_hash 14 = .ok (.iload_n 1, 1) := by decide +kernel
theorem dX47_hash_15 : decode cX47_hash 15 = .ok (.aload_n 0, 1) := by decide +kernel
theorem dX47_hash_16 : decode cX47_hash 16 = .ok (.getfield 145, 3) := by decide +kernel
theorem dX47_hash_19 : decode cX47_hash 19 = .ok (.bipush 8, 2) := by decide +kernel
theorem dX47_hash_21 : decode cX47_hash 21 = .ok (.iaload, 1) := by decide +kernel
theorem dX47_hash_22 : decode cX47_hash 22 = .ok (.if_icmp .gt 13, 3) := by decide +kernel
theorem dX47_hash_25 : decode cX47_hash 25 = .ok (.iload_n 2, 1) := by decide +kernel
theorem dX47_hash_26 : decode cX47_hash 26 = .ok (.ifCond .lt 9, 3) := by decide +kernel
theorem dX47_hash_29 : decode cX47_hash 29 = .ok (.iload_n 2, 1) := by decide +kernel
theorem dX47_hash_30 : decode cX47_hash 30 = .ok (.bipush 7, 2) := by decide +kernel
theorem dX47_hash_32 : decode cX47_hash 32 = .ok (.if_icmp .le 7, 3) := by decide +kernel
theorem dX47_hash_35 : decode cX47_hash 35 = .ok (.iconst 0, 1) := by decide +kernel
theorem dX47_hash_36 : decode cX47_hash 36 = .ok (.goto 15, 3) := by decide +kernel
theorem dX47_hash_39 : decode cX47_hash 39 = .ok (.aload_n 0, 1) := by decide +kernel
theorem dX47_hash_40 : decode cX47_hash 40 = .ok (.getfield 155, 3) := by decide +kernel
theorem dX47_hash_43 : decode cX47_hash 43 = .ok (.bipush 8, 2) := by decide +kernel
theorem dX47_hash_45 : decode cX47_hash 45 = .ok (.iload_n 1, 1) := by decide +kernel
theorem dX47_hash_46 : decode cX47_hash 46 = .ok (.imul, 1) := by decide +kernel
theorem dX47_hash_47 : decode cX47_hash 47 = .ok (.iload_n 2, 1) := by decide +kernel
theorem dX47_hash_48 : decode cX47_hash 48 = .ok (.iadd, 1) := by decide +kernel
theorem dX47_hash_49 : decode cX47_hash 49 = .ok (.laload, 1) := by decide +kernel
theorem dX47_hash_50 : decode cX47_hash 50 = .ok (.l2i, 1) := by decide +kernel
theorem dX47_hash_51 : decode cX47_hash 51 = .ok (.ireturn, 1) := by decide +kernel
abbrev cX47_rounds : ByteArray := prog_80_method_23_code
def yX47_rounds : MethodName := ⟨RX47, "rounds", "()I"⟩
theorem dX47_rounds_0 : decode cX47_rounds 0 = .ok (.aload_n 0, 1) := by decide +kernel
theorem dX47_rounds_1 : decode cX47_rounds 1 = .ok (.iconst 0, 1) := by decide +kernel
theorem dX47_rounds_2 : decode cX47_rounds 2 = .ok (.putfield 1, 3) := by decide +kernel
theorem dX47_rounds_5 : decode cX47_rounds 5 = .ok (.aload_n 0, 1) := by decide +kernel
theorem dX47_rounds_6 : decode cX47_rounds 6 = .ok (.invokevirtual 294, 3) := by decide +kernel
theorem dX47_rounds_9 : decode cX47_rounds 9 = .ok (.aload_n 0, 1) := by decide +kernel
theorem dX47_rounds_10 : decode cX47_rounds 10 = .ok (.getfield 278, 3) := by decide +kernel
theorem dX47_rounds_13 : decode cX47_rounds 13 = .ok (.ireturn, 1) := by decide +kernel
abbrev cX47_first : ByteArray := prog_80_method_24_code
def yX47_first : MethodName := ⟨RX47, "first", "(II)I"⟩
theorem dX47_first_0 : decode cX47_first 0 = .ok (.aload_n 0, 1) := by decide +kernel
theorem dX47_first_1 : decode cX47_first 1 = .ok (.iconst 0, 1) := by decide +kernel
theorem dX47_first_2 : decode cX47_first 2 = .ok (.putfield 1, 3) := by decide +kernel
theorem dX47_first_5 : decode cX47_first 5 = .ok (.aload_n 0, 1) := by decide +kernel
theorem dX47_first_6 : decode cX47_first 6 = .ok (.invokevirtual 294, 3) := by decide +kernel
theorem dX47_first_9 : decode cX47_first 9 = .ok (.iload_n 1, 1) := by decide +kernel
theorem dX47_first_10 : decode cX47_first 10 = .ok (.ifCond .lt 15, 3) := by decide +kernel
theorem dX47_first_13 : decode cX47_first 13 = .ok (.iload_n 1, 1) := by decide +kernel
theorem dX47_first_14 : decode cX47_first 14 = .ok (.aload_n 0, 1) := by decide +kernel
theorem dX47_first_15 : decode cX47_first 15 = .ok (.getfield 291, 3) := by decide +kernel
theorem dX47_first_18 : decode cX47_first 18 = .ok (.if_icmp .ge 7, 3) := by decide +kernel
theorem dX47_first_21 : decode cX47_first 21 = .ok (.iload_n 2, 1) := by decide +kernel
theorem dX47_first_22 : decode cX47_first 22 = .ok (.ifCond .ge 5, 3) := by decide +kernel
theorem dX47_first_25 : decode cX47_first 25 = .ok (.iconst (-1), 1) := by decide +kernel
theorem dX47_first_26 : decode cX47_first 26 = .ok (.ireturn, 1) := by decide +kernel
theorem dX47_first_27 : decode cX47_first 27 = .ok (.iload_n 2, 1) := by decide +kernel
theorem dX47_first_28 : decode cX47_first 28 = .ok (.istore_n 3, 1) := by decide +kernel
theorem dX47_first_29 : decode cX47_first 29 = .ok (.iconst 1, 1) := by decide +kernel
theorem dX47_first_30 : decode cX47_first 30 = .ok (.istore 4, 2) := by decide +kernel
theorem dX47_first_32 : decode cX47_first 32 = .ok (.iload 4, 2) := by decide +kernel
theorem dX47_first_34 : decode cX47_first 34 = .ok (.aload_n 0, 1) := by decide +kernel
theorem dX47_first_35 : decode cX47_first 35 = .ok (.getfield 145, 3) := by decide +kernel
theorem dX47_first_38 : decode cX47_first 38 = .ok (.bipush 8, 2) := by decide +kernel
theorem dX47_first_40 : decode cX47_first 40 = .ok (.iaload, 1) := by decide +kernel
theorem dX47_first_41 : decode cX47_first 41 = .ok (.if_icmp .gt 33, 3) := by decide +kernel
theorem dX47_first_44 : decode cX47_first 44 = .ok (.aload_n 0, 1) := by decide +kernel
theorem dX47_first_45 : decode cX47_first 45 = .ok (.getfield 161, 3) := by decide +kernel
theorem dX47_first_48 : decode cX47_first 48 = .ok (.iload 4, 2) := by decide +kernel
theorem dX47_first_50 : decode cX47_first 50 = .ok (.iaload, 1) := by decide +kernel
theorem dX47_first_51 : decode cX47_first 51 = .ok (.iload_n 1, 1) := by decide +kernel
theorem dX47_first_52 : decode cX47_first 52 = .ok (.if_icmp .eq 6, 3) := by decide +kernel
theorem dX47_first_55 : decode cX47_first 55 = .ok (.goto 13, 3) := by decide +kernel
theorem dX47_first_58 : decode cX47_first 58 = .ok (.iload_n 3, 1) := by decide +kernel
theorem dX47_first_59 : decode cX47_first 59 = .ok (.ifCond .ne 6, 3) := by decide +kernel
theorem dX47_first_62 : decode cX47_first 62 = .ok (.iload 4, 2) := by decide +kernel
theorem dX47_first_64 : decode cX47_first 64 = .ok (.ireturn, 1) := by decide +kernel
theorem dX47_first_65 : decode cX47_first 65 = .ok (.iinc 3 (-1), 3) := by decide +kernel
theorem dX47_first_68 : decode cX47_first 68 = .ok (.iinc 4 1, 3) := by decide +kernel
theorem dX47_first_71 : decode cX47_first 71 = .ok (.goto (-39), 3) := by decide +kernel
theorem dX47_first_74 : decode cX47_first 74 = .ok (.iconst (-1), 1) := by decide +kernel
theorem dX47_first_75 : decode cX47_first 75 = .ok (.ireturn, 1) := by decide +kernel
abbrev cX47_equal : ByteArray := prog_80_method_44_code
def yX47_equal : MethodName := ⟨RX47, "equal", "(I)I"⟩
theorem dX47_equal_0 : decode cX47_equal 0 = .ok (.aload_n 0, 1) := by decide +kernel
theorem dX47_equal_1 : decode cX47_equal 1 = .ok (.iconst 0, 1) := by decide +kernel
theorem dX47_equal_2 : decode cX47_equal 2 = .ok (.putfield 1, 3) := by decide +kernel
theorem dX47_equal_5 : decode cX47_equal 5 = .ok (.aload_n 0, 1) := by decide +kernel
theorem dX47_equal_6 : decode cX47_equal 6 = .ok (.iload_n 1, 1) := by decide +kernel
theorem dX47_equal_7 : decode cX47_equal 7 = .ok (.invokevirtual 340, 3) := by decide +kernel
theorem dX47_equal_10 : decode cX47_equal 10 = .ok (.ifCond .ne 5, 3) := by decide +kernel
theorem dX47_equal_13 : decode cX47_equal 13 = .ok (.iconst (-1), 1) := by decide +kernel
theorem dX47_equal_14 : decode cX47_equal 14 = .ok (.ireturn, 1) := by decide +kernel
theorem dX47_equal_15 : decode cX47_equal 15 = .ok (.aload_n 0, 1) := by decide +kernel
theorem dX47_equal_16 : decode cX47_equal 16 = .ok (.getfield 145, 3) := by decide +kernel
theorem dX47_equal_19 : decode cX47_equal 19 = .ok (.iload_n 1, 1) := by decide +kernel
theorem dX47_equal_20 : decode cX47_equal 20 = .ok (.iaload, 1) := by decide +kernel
theorem dX47_equal_21 : decode cX47_equal 21 = .ok (.aload_n 0, 1) := by decide +kernel
theorem dX47_equal_22 : decode cX47_equal 22 = .ok (.getfield 145, 3) := by decide +kernel
theorem dX47_equal_25 : decode cX47_equal 25 = .ok (.bipush 8, 2) := by decide +kernel
theorem dX47_equal_27 : decode cX47_equal 27 = .ok (.iaload, 1) := by decide +kernel
theorem dX47_equal_28 : decode cX47_equal 28 = .ok (.if_icmp .ne 19, 3) := by decide +kernel
theorem dX47_equal_31 : decode cX47_equal 31 = .ok (.aload_n 0, 1) := by decide +kernel
theorem dX47_equal_32 : decode cX47_equal 32 = .ok (.getfield 149, 3) := by decide +kernel
theorem dX47_equal_35 : decode cX47_equal 35 = .ok (.iload_n 1, 1) := by decide +kernel
theorem dX47_equal_36 : decode cX47_equal 36 = .ok (.iaload, 1) := by decide +kernel
theorem dX47_equal_37 : decode cX47_equal 37 = .ok (.aload_n 0, 1) := by decide +kernel
theorem dX47_equal_38 : decode cX47_equal 38 = .ok (.getfield 149, 3) := by decide +kernel
theorem dX47_equal_41 : decode cX47_equal 41 = .ok (.bipush 8, 2) := by decide +kernel
theorem dX47_equal_43 : decode cX47_equal 43 = .ok (.iaload, 1) := by decide +kernel
theorem dX47_equal_44 : decode cX47_equal 44 = .ok (.if_icmp .eq 5, 3) := by decide +kernel
theorem dX47_equal_47 : decode cX47_equal 47 = .ok (.iconst 0, 1) := by decide +kernel
theorem dX47_equal_48 : decode cX47_equal 48 = .ok (.ireturn, 1) := by decide +kernel
theorem dX47_equal_49 : decode cX47_equal 49 = .ok (.aload_n 0, 1) := by decide +kernel
theorem dX47_equal_50 : decode cX47_equal 50 = .ok (.aload_n 0, 1) := by decide +kernel
theorem dX47_equal_51 : decode cX47_equal 51 = .ok (.getfield 145, 3) := by decide +kernel
theorem dX47_equal_54 : decode cX47_equal 54 = .ok (.bipush 8, 2) := by decide +kernel
theorem dX47_equal_56 : decode cX47_equal 56 = .ok (.iaload, 1) := by decide +kernel
theorem dX47_equal_57 : decode cX47_equal 57 = .ok (.invokevirtual 312, 3) := by decide +kernel
theorem dX47_equal_60 : decode cX47_equal 60 = .ok (.aload_n 0, 1) := by decide +kernel
theorem dX47_equal_61 : decode cX47_equal 61 = .ok (.iload_n 1, 1) := by decide +kernel
theorem dX47_equal_62 : decode cX47_equal 62 = .ok (.invokevirtual 343, 3) := by decide +kernel
theorem dX47_equal_65 : decode cX47_equal 65 = .ok (.ifCond .eq 7, 3) := by decide +kernel
theorem dX47_equal_68 : decode cX47_equal 68 = .ok (.iconst 1, 1) := by decide +kernel
theorem dX47_equal_69 : decode cX47_equal 69 = .ok (.goto 4, 3) := by decide +kernel
theorem dX47_equal_72 : decode cX47_equal 72 = .ok (.iconst 0, 1) := by decide +kernel
theorem dX47_equal_73 : decode cX47_equal 73 = .ok (.ireturn, 1) := by decide +kernel
abbrev cX47_blanks : ByteArray := prog_80_method_46_code
def yX47_blanks : MethodName := ⟨RX47, "blanks", "()I"⟩
theorem dX47_blanks_0 : decode cX47_blanks 0 = .ok (.aload_n 0, 1) := by decide +kernel
theorem dX47_blanks_1 : decode cX47_blanks 1 = .ok (.iconst 0, 1) := by decide +kernel
theorem dX47_blanks_2 : decode cX47_blanks 2 = .ok (.putfield 1, 3) := by decide +kernel
theorem dX47_blanks_5 : decode cX47_blanks 5 = .ok (.aload_n 0, 1) := by decide +kernel
theorem dX47_blanks_6 : decode cX47_blanks 6 = .ok (.getfield 145, 3) := by decide +kernel
theorem dX47_blanks_9 : decode cX47_blanks 9 = .ok (.bipush 8, 2) := by decide +kernel
theorem dX47_blanks_11 : decode cX47_blanks 11 = .ok (.iaload, 1) := by decide +kernel
theorem dX47_blanks_12 : decode cX47_blanks 12 = .ok (.ireturn, 1) := by decide +kernel
theorem in_X47 : ∀ w ∈ wsX470, w ∈ lw_all := lw_in wsX470 [6011, 6013, 6015, 6017, 6019, 6021, 6023, 6025, 6027, 6029, 6031, 6033, 6035, 6037, 6039, 6041, 6043, 6045, 6047, 6049, 6051, 6053, 6055, 6057, 6059, 6061, 6063] (by decide +kernel) (by decide +kernel)
theorem q542 : (Jvm.Cond.initialized "KnowHouseModel$CanonNamesModel") ∈ lw_all := lw_g (lw_at lw_m1 64 rfl) rfl
theorem q5958 : (Jvm.Cond.methodLink "KnowHouseModel$CanonNamesModel" (199 : Nat) ({ cls := "KnowHouseModel$CanonNamesModel", name := "digestOf", desc := "(I)V" } : Jvm.MethodName)) ∈ lw_all := lw_g (lw_at lw_m23 200 rfl) rfl
theorem q5960 : (Jvm.Cond.instanceMethod ({ cls := "KnowHouseModel$CanonNamesModel", name := "digestOf", desc := "(I)V" } : Jvm.MethodName)) ∈ lw_all := lw_g (lw_at lw_m23 202 rfl) rfl
theorem q5961 : (Jvm.Cond.code ({ cls := "KnowHouseModel$CanonNamesModel", name := "digestOf", desc := "(I)V" } : Jvm.MethodName) prog_80_method_4_code (4 : Nat) (Option.none : Option Jvm.ClassFile.FieldType)) ∈ lw_all := lw_g (lw_at lw_m23 203 rfl) rfl
theorem q5962 : (Jvm.Cond.constantLong "KnowHouseModel$CanonNamesModel" (208 : Nat) (1779033703 : Int64)) ∈ lw_all := lw_g (lw_at lw_m23 204 rfl) rfl
theorem q5963 : (Jvm.Cond.constantLong "KnowHouseModel$CanonNamesModel" (210 : Nat) (3144134277 : Int64)) ∈ lw_all := lw_g (lw_at lw_m23 205 rfl) rfl
theorem q5964 : (Jvm.Cond.constantLong "KnowHouseModel$CanonNamesModel" (212 : Nat) (1013904242 : Int64)) ∈ lw_all := lw_g (lw_at lw_m23 206 rfl) rfl
theorem q5965 : (Jvm.Cond.constantLong "KnowHouseModel$CanonNamesModel" (214 : Nat) (2773480762 : Int64)) ∈ lw_all := lw_g (lw_at lw_m23 207 rfl) rfl
theorem q5966 : (Jvm.Cond.constantLong "KnowHouseModel$CanonNamesModel" (216 : Nat) (1359893119 : Int64)) ∈ lw_all := lw_g (lw_at lw_m23 208 rfl) rfl
theorem q5967 : (Jvm.Cond.constantLong "KnowHouseModel$CanonNamesModel" (218 : Nat) (2600822924 : Int64)) ∈ lw_all := lw_g (lw_at lw_m23 209 rfl) rfl
theorem q5968 : (Jvm.Cond.constantLong "KnowHouseModel$CanonNamesModel" (220 : Nat) (528734635 : Int64)) ∈ lw_all := lw_g (lw_at lw_m23 210 rfl) rfl
theorem q5969 : (Jvm.Cond.constantLong "KnowHouseModel$CanonNamesModel" (222 : Nat) (1541459225 : Int64)) ∈ lw_all := lw_g (lw_at lw_m23 211 rfl) rfl
theorem q5970 : (Jvm.Cond.constantLong "KnowHouseModel$CanonNamesModel" (224 : Nat) (8 : Int64)) ∈ lw_all := lw_g (lw_at lw_m23 212 rfl) rfl
theorem q5971 : (Jvm.Cond.methodLink "KnowHouseModel$CanonNamesModel" (226 : Nat) ({ cls := "KnowHouseModel$CanonNamesModel", name := "block", desc := "(I)V" } : Jvm.MethodName)) ∈ lw_all := lw_g (lw_at lw_m23 213 rfl) rfl
theorem q5973 : (Jvm.Cond.instanceMethod ({ cls := "KnowHouseModel$CanonNamesModel", name := "block", desc := "(I)V" } : Jvm.MethodName)) ∈ lw_all := lw_g (lw_at lw_m23 215 rfl) rfl
theorem q5974 : (Jvm.Cond.code ({ cls := "KnowHouseModel$CanonNamesModel", name := "block", desc := "(I)V" } : Jvm.MethodName) prog_80_method_5_code (23 : Nat) (Option.none : Option Jvm.ClassFile.FieldType)) ∈ lw_all := lw_g (lw_at lw_m23 216 rfl) rfl
theorem q5975 : (Jvm.Cond.constantLong "KnowHouseModel$CanonNamesModel" (229 : Nat) (256 : Int64)) ∈ lw_all := lw_g (lw_at lw_m23 217 rfl) rfl
theorem q5976 : (Jvm.Cond.methodLink "KnowHouseModel$CanonNamesModel" (231 : Nat) ({ cls := "KnowHouseModel$CanonNamesModel", name := "turned", desc := "(JI)J" } : Jvm.MethodName)) ∈ lw_all := lw_g (lw_at lw_m23 218 rfl) rfl
theorem q5977 : (Jvm.Cond.static ({ cls := "KnowHouseModel$CanonNamesModel", name := "turned", desc := "(JI)J" } : Jvm.MethodName)) ∈ lw_all := lw_g (lw_at lw_m23 219 rfl) rfl
theorem q5978 : (Jvm.Cond.code ({ cls := "KnowHouseModel$CanonNamesModel", name := "turned", desc := "(JI)J" } : Jvm.MethodName) prog_80_method_3_code (3 : Nat) (Option.some Jvm.ClassFile.FieldType.long)) ∈ lw_all := lw_g (lw_at lw_m23 220 rfl) rfl
theorem q5979 : (Jvm.Cond.constantLong "KnowHouseModel$CanonNamesModel" (206 : Nat) (4294967295 : Int64)) ∈ lw_all := lw_g (lw_at lw_m23 221 rfl) rfl
theorem q5980 : (Jvm.Cond.methodLink "KnowHouseModel$CanonNamesModel" (203 : Nat) ({ cls := "KnowHouseModel$CanonNamesModel", name := "octetsOf", desc := "()V" } : Jvm.MethodName)) ∈ lw_all := lw_g (lw_at lw_m23 222 rfl) rfl
theorem q5982 : (Jvm.Cond.instanceMethod ({ cls := "KnowHouseModel$CanonNamesModel", name := "octetsOf", desc := "()V" } : Jvm.MethodName)) ∈ lw_all := lw_g (lw_at lw_m23 224 rfl) rfl
theorem q5983 : (Jvm.Cond.code ({ cls := "KnowHouseModel$CanonNamesModel", name := "octetsOf", desc := "()V" } : Jvm.MethodName) prog_80_method_6_code (2 : Nat) (Option.none : Option Jvm.ClassFile.FieldType)) ∈ lw_all := lw_g (lw_at lw_m23 225 rfl) rfl
theorem q5984 : (Jvm.Cond.fieldLink "KnowHouseModel$CanonNamesModel" (141 : Nat) "KnowHouseModel$CanonNamesModel" "constants" "[J") ∈ lw_all := lw_g (lw_at lw_m23 226 rfl) rfl
theorem q5985 : (Jvm.Cond.fieldLink "KnowHouseModel$CanonNamesModel" (145 : Nat) "KnowHouseModel$CanonNamesModel" "blanks" "[I") ∈ lw_all := lw_g (lw_at lw_m23 227 rfl) rfl
theorem q5986 : (Jvm.Cond.fieldLink "KnowHouseModel$CanonNamesModel" (149 : Nat) "KnowHouseModel$CanonNamesModel" "counts" "[I") ∈ lw_all := lw_g (lw_at lw_m23 228 rfl) rfl
theorem q5987 : (Jvm.Cond.fieldLink "KnowHouseModel$CanonNamesModel" (152 : Nat) "KnowHouseModel$CanonNamesModel" "points" "[I") ∈ lw_all := lw_g (lw_at lw_m23 229 rfl) rfl
theorem q5988 : (Jvm.Cond.fieldLink "KnowHouseModel$CanonNamesModel" (337 : Nat) "KnowHouseModel$CanonNamesModel" "kept" "I") ∈ lw_all := lw_g (lw_at lw_m23 230 rfl) rfl
theorem q5989 : (Jvm.Cond.fieldLink "KnowHouseModel$CanonNamesModel" (155 : Nat) "KnowHouseModel$CanonNamesModel" "hashes" "[J") ∈ lw_all := lw_g (lw_at lw_m23 231 rfl) rfl
theorem q5990 : (Jvm.Cond.fieldLink "KnowHouseModel$CanonNamesModel" (158 : Nat) "KnowHouseModel$CanonNamesModel" "news" "[J") ∈ lw_all := lw_g (lw_at lw_m23 232 rfl) rfl
theorem q5991 : (Jvm.Cond.fieldLink "KnowHouseModel$CanonNamesModel" (278 : Nat) "KnowHouseModel$CanonNamesModel" "rounds" "I") ∈ lw_all := lw_g (lw_at lw_m23 233 rfl) rfl
theorem q5992 : (Jvm.Cond.fieldLink "KnowHouseModel$CanonNamesModel" (241 : Nat) "KnowHouseModel$CanonNamesModel" "hashed" "Z") ∈ lw_all := lw_g (lw_at lw_m23 234 rfl) rfl
theorem q5993 : (Jvm.Cond.fieldLink "KnowHouseModel$CanonNamesModel" (161 : Nat) "KnowHouseModel$CanonNamesModel" "groups" "[I") ∈ lw_all := lw_g (lw_at lw_m23 235 rfl) rfl
theorem q5994 : (Jvm.Cond.fieldLink "KnowHouseModel$CanonNamesModel" (164 : Nat) "KnowHouseModel$CanonNamesModel" "groupOf" "[I") ∈ lw_all := lw_g (lw_at lw_m23 236 rfl) rfl
theorem q5995 : (Jvm.Cond.fieldLink "KnowHouseModel$CanonNamesModel" (291 : Nat) "KnowHouseModel$CanonNamesModel" "groupCount" "I") ∈ lw_all := lw_g (lw_at lw_m23 237 rfl) rfl
theorem q5996 : (Jvm.Cond.fieldLink "KnowHouseModel$CanonNamesModel" (167 : Nat) "KnowHouseModel$CanonNamesModel" "trial" "[I") ∈ lw_all := lw_g (lw_at lw_m23 238 rfl) rfl
theorem q5997 : (Jvm.Cond.fieldLink "KnowHouseModel$CanonNamesModel" (170 : Nat) "KnowHouseModel$CanonNamesModel" "row" "[I") ∈ lw_all := lw_g (lw_at lw_m23 239 rfl) rfl
theorem q5998 : (Jvm.Cond.fieldLink "KnowHouseModel$CanonNamesModel" (173 : Nat) "KnowHouseModel$CanonNamesModel" "names" "[I") ∈ lw_all := lw_g (lw_at lw_m24 0 rfl) rfl
theorem q5999 : (Jvm.Cond.fieldLink "KnowHouseModel$CanonNamesModel" (331 : Nat) "KnowHouseModel$CanonNamesModel" "namedBlanks" "I") ∈ lw_all := lw_g (lw_at lw_m24 1 rfl) rfl
theorem q6000 : (Jvm.Cond.fieldLink "KnowHouseModel$CanonNamesModel" (176 : Nat) "KnowHouseModel$CanonNamesModel" "form" "[I") ∈ lw_all := lw_g (lw_at lw_m24 2 rfl) rfl
theorem q6001 : (Jvm.Cond.fieldLink "KnowHouseModel$CanonNamesModel" (334 : Nat) "KnowHouseModel$CanonNamesModel" "formCount" "I") ∈ lw_all := lw_g (lw_at lw_m24 3 rfl) rfl
theorem q6002 : (Jvm.Cond.fieldLink "KnowHouseModel$CanonNamesModel" (179 : Nat) "KnowHouseModel$CanonNamesModel" "octets" "[B") ∈ lw_all := lw_g (lw_at lw_m24 4 rfl) rfl
theorem q6003 : (Jvm.Cond.fieldLink "KnowHouseModel$CanonNamesModel" (183 : Nat) "KnowHouseModel$CanonNamesModel" "descriptions" "[I") ∈ lw_all := lw_g (lw_at lw_m24 5 rfl) rfl
theorem q6004 : (Jvm.Cond.fieldLink "KnowHouseModel$CanonNamesModel" (257 : Nat) "KnowHouseModel$CanonNamesModel" "described" "I") ∈ lw_all := lw_g (lw_at lw_m24 6 rfl) rfl
theorem q6005 : (Jvm.Cond.fieldLink "KnowHouseModel$CanonNamesModel" (186 : Nat) "KnowHouseModel$CanonNamesModel" "message" "[B") ∈ lw_all := lw_g (lw_at lw_m24 7 rfl) rfl
theorem q6006 : (Jvm.Cond.fieldLink "KnowHouseModel$CanonNamesModel" (235 : Nat) "KnowHouseModel$CanonNamesModel" "size" "I") ∈ lw_all := lw_g (lw_at lw_m24 8 rfl) rfl
theorem q6007 : (Jvm.Cond.fieldLink "KnowHouseModel$CanonNamesModel" (189 : Nat) "KnowHouseModel$CanonNamesModel" "words" "[J") ∈ lw_all := lw_g (lw_at lw_m24 9 rfl) rfl
theorem q6008 : (Jvm.Cond.fieldLink "KnowHouseModel$CanonNamesModel" (192 : Nat) "KnowHouseModel$CanonNamesModel" "schedule" "[J") ∈ lw_all := lw_g (lw_at lw_m24 10 rfl) rfl
theorem q6009 : (Jvm.Cond.fieldLink "KnowHouseModel$CanonNamesModel" (1 : Nat) "KnowHouseModel$CanonNamesModel" "thrown" "I") ∈ lw_all := lw_g (lw_at lw_m24 11 rfl) rfl
theorem q6010 : (Jvm.Cond.fieldLink "KnowHouseModel$CanonNamesModel" (195 : Nat) "KnowHouseModel$CanonNamesModel" "said" "[Z") ∈ lw_all := lw_g (lw_at lw_m24 12 rfl) rfl
theorem q7416 : (Jvm.Cond.methodLink "KnowHouseModel$CanonNamesModel" (249 : Nat) ({ cls := "KnowHouseModel$CanonNamesModel", name := "isPoint", desc := "(I)Z" } : Jvm.MethodName)) ∈ lw_all := lw_g (lw_at lw_m29 218 rfl) rfl
theorem q7418 : (Jvm.Cond.instanceMethod ({ cls := "KnowHouseModel$CanonNamesModel", name := "isPoint", desc := "(I)Z" } : Jvm.MethodName)) ∈ lw_all := lw_g (lw_at lw_m29 220 rfl) rfl
theorem q7419 : (Jvm.Cond.code ({ cls := "KnowHouseModel$CanonNamesModel", name := "isPoint", desc := "(I)Z" } : Jvm.MethodName) prog_80_method_11_code (2 : Nat) (Option.some Jvm.ClassFile.FieldType.boolean)) ∈ lw_all := lw_g (lw_at lw_m29 221 rfl) rfl
theorem q7420 : (Jvm.Cond.methodLink "KnowHouseModel$CanonNamesModel" (253 : Nat) ({ cls := "KnowHouseModel$CanonNamesModel", name := "find", desc := "(IIII)I" } : Jvm.MethodName)) ∈ lw_all := lw_g (lw_at lw_m29 222 rfl) rfl
theorem q7422 : (Jvm.Cond.instanceMethod ({ cls := "KnowHouseModel$CanonNamesModel", name := "find", desc := "(IIII)I" } : Jvm.MethodName)) ∈ lw_all := lw_g (lw_at lw_m29 224 rfl) rfl
theorem q7423 : (Jvm.Cond.code ({ cls := "KnowHouseModel$CanonNamesModel", name := "find", desc := "(IIII)I" } : Jvm.MethodName) prog_80_method_12_code (7 : Nat) (Option.some Jvm.ClassFile.FieldType.int)) ∈ lw_all := lw_g (lw_at lw_m29 225 rfl) rfl
theorem q7424 : (Jvm.Cond.methodLink "KnowHouseModel$CanonNamesModel" (245 : Nat) ({ cls := "KnowHouseModel$CanonNamesModel", name := "at", desc := "(II)I" } : Jvm.MethodName)) ∈ lw_all := lw_g (lw_at lw_m29 226 rfl) rfl
theorem q7425 : (Jvm.Cond.static ({ cls := "KnowHouseModel$CanonNamesModel", name := "at", desc := "(II)I" } : Jvm.MethodName)) ∈ lw_all := lw_g (lw_at lw_m29 227 rfl) rfl
theorem q7426 : (Jvm.Cond.code ({ cls := "KnowHouseModel$CanonNamesModel", name := "at", desc := "(II)I" } : Jvm.MethodName) prog_80_method_9_code (2 : Nat) (Option.some Jvm.ClassFile.FieldType.int)) ∈ lw_all := lw_g (lw_at lw_m29 228 rfl) rfl
theorem q7432 : (Jvm.Cond.methodLink "KnowHouseModel$CanonNamesModel" (294 : Nat) ({ cls := "KnowHouseModel$CanonNamesModel", name := "makeHashes", desc := "()V" } : Jvm.MethodName)) ∈ lw_all := lw_g (lw_at lw_m29 234 rfl) rfl
theorem q7434 : (Jvm.Cond.instanceMethod ({ cls := "KnowHouseModel$CanonNamesModel", name := "makeHashes", desc := "()V" } : Jvm.MethodName)) ∈ lw_all := lw_g (lw_at lw_m29 236 rfl) rfl
theorem q7435 : (Jvm.Cond.code ({ cls := "KnowHouseModel$CanonNamesModel", name := "makeHashes", desc := "()V" } : Jvm.MethodName) prog_80_method_20_code (5 : Nat) (Option.none : Option Jvm.ClassFile.FieldType)) ∈ lw_all := lw_g (lw_at lw_m29 237 rfl) rfl
theorem q7436 : (Jvm.Cond.methodLink "KnowHouseModel$CanonNamesModel" (281 : Nat) ({ cls := "KnowHouseModel$CanonNamesModel", name := "next", desc := "(I)V" } : Jvm.MethodName)) ∈ lw_all := lw_g (lw_at lw_m29 238 rfl) rfl
theorem q7438 : (Jvm.Cond.instanceMethod ({ cls := "KnowHouseModel$CanonNamesModel", name := "next", desc := "(I)V" } : Jvm.MethodName)) ∈ lw_all := lw_g (lw_at lw_m30 0 rfl) rfl
theorem q7439 : (Jvm.Cond.code ({ cls := "KnowHouseModel$CanonNamesModel", name := "next", desc := "(I)V" } : Jvm.MethodName) prog_80_method_17_code (5 : Nat) (Option.none : Option Jvm.ClassFile.FieldType)) ∈ lw_all := lw_g (lw_at lw_m30 1 rfl) rfl
theorem q7440 : (Jvm.Cond.methodLink "KnowHouseModel$CanonNamesModel" (262 : Nat) ({ cls := "KnowHouseModel$CanonNamesModel", name := "describe", desc := "(II)V" } : Jvm.MethodName)) ∈ lw_all := lw_g (lw_at lw_m30 2 rfl) rfl
theorem q7442 : (Jvm.Cond.instanceMethod ({ cls := "KnowHouseModel$CanonNamesModel", name := "describe", desc := "(II)V" } : Jvm.MethodName)) ∈ lw_all := lw_g (lw_at lw_m30 4 rfl) rfl
theorem q7443 : (Jvm.Cond.code ({ cls := "KnowHouseModel$CanonNamesModel", name := "describe", desc := "(II)V" } : Jvm.MethodName) prog_80_method_15_code (8 : Nat) (Option.none : Option Jvm.ClassFile.FieldType)) ∈ lw_all := lw_g (lw_at lw_m30 5 rfl) rfl
theorem q7444 : (Jvm.Cond.constantLong "KnowHouseModel$CanonNamesModel" (260 : Nat) (255 : Int64)) ∈ lw_all := lw_g (lw_at lw_m30 6 rfl) rfl
theorem q7445 : (Jvm.Cond.methodLink "KnowHouseModel$CanonNamesModel" (266 : Nat) ({ cls := "KnowHouseModel$CanonNamesModel", name := "sayNumber", desc := "(J)V" } : Jvm.MethodName)) ∈ lw_all := lw_g (lw_at lw_m30 7 rfl) rfl
theorem q7447 : (Jvm.Cond.instanceMethod ({ cls := "KnowHouseModel$CanonNamesModel", name := "sayNumber", desc := "(J)V" } : Jvm.MethodName)) ∈ lw_all := lw_g (lw_at lw_m30 9 rfl) rfl
theorem q7448 : (Jvm.Cond.code ({ cls := "KnowHouseModel$CanonNamesModel", name := "sayNumber", desc := "(J)V" } : Jvm.MethodName) prog_80_method_8_code (4 : Nat) (Option.none : Option Jvm.ClassFile.FieldType)) ∈ lw_all := lw_g (lw_at lw_m30 10 rfl) rfl
theorem q7449 : (Jvm.Cond.methodLink "KnowHouseModel$CanonNamesModel" (238 : Nat) ({ cls := "KnowHouseModel$CanonNamesModel", name := "say", desc := "(I)V" } : Jvm.MethodName)) ∈ lw_all := lw_g (lw_at lw_m30 11 rfl) rfl
theorem q7451 : (Jvm.Cond.instanceMethod ({ cls := "KnowHouseModel$CanonNamesModel", name := "say", desc := "(I)V" } : Jvm.MethodName)) ∈ lw_all := lw_g (lw_at lw_m30 13 rfl) rfl
theorem q7452 : (Jvm.Cond.code ({ cls := "KnowHouseModel$CanonNamesModel", name := "say", desc := "(I)V" } : Jvm.MethodName) prog_80_method_7_code (2 : Nat) (Option.none : Option Jvm.ClassFile.FieldType)) ∈ lw_all := lw_g (lw_at lw_m30 14 rfl) rfl
theorem q7453 : (Jvm.Cond.methodLink "KnowHouseModel$CanonNamesModel" (270 : Nat) ({ cls := "KnowHouseModel$CanonNamesModel", name := "isBefore", desc := "(II)Z" } : Jvm.MethodName)) ∈ lw_all := lw_g (lw_at lw_m30 15 rfl) rfl
theorem q7455 : (Jvm.Cond.instanceMethod ({ cls := "KnowHouseModel$CanonNamesModel", name := "isBefore", desc := "(II)Z" } : Jvm.MethodName)) ∈ lw_all := lw_g (lw_at lw_m30 17 rfl) rfl
theorem q7456 : (Jvm.Cond.code ({ cls := "KnowHouseModel$CanonNamesModel", name := "isBefore", desc := "(II)Z" } : Jvm.MethodName) prog_80_method_16_code (8 : Nat) (Option.some Jvm.ClassFile.FieldType.boolean)) ∈ lw_all := lw_g (lw_at lw_m30 18 rfl) rfl
theorem q7457 : (Jvm.Cond.methodLink "KnowHouseModel$CanonNamesModel" (284 : Nat) ({ cls := "KnowHouseModel$CanonNamesModel", name := "different", desc := "([J)I" } : Jvm.MethodName)) ∈ lw_all := lw_g (lw_at lw_m30 19 rfl) rfl
theorem q7459 : (Jvm.Cond.instanceMethod ({ cls := "KnowHouseModel$CanonNamesModel", name := "different", desc := "([J)I" } : Jvm.MethodName)) ∈ lw_all := lw_g (lw_at lw_m30 21 rfl) rfl
theorem q7460 : (Jvm.Cond.code ({ cls := "KnowHouseModel$CanonNamesModel", name := "different", desc := "([J)I" } : Jvm.MethodName) prog_80_method_19_code (6 : Nat) (Option.some Jvm.ClassFile.FieldType.int)) ∈ lw_all := lw_g (lw_at lw_m30 22 rfl) rfl
theorem q7461 : (Jvm.Cond.methodLink "KnowHouseModel$CanonNamesModel" (274 : Nat) ({ cls := "KnowHouseModel$CanonNamesModel", name := "compare", desc := "([JII)I" } : Jvm.MethodName)) ∈ lw_all := lw_g (lw_at lw_m30 23 rfl) rfl
theorem q7462 : (Jvm.Cond.static ({ cls := "KnowHouseModel$CanonNamesModel", name := "compare", desc := "([JII)I" } : Jvm.MethodName)) ∈ lw_all := lw_g (lw_at lw_m30 24 rfl) rfl
theorem q7463 : (Jvm.Cond.code ({ cls := "KnowHouseModel$CanonNamesModel", name := "compare", desc := "([JII)I" } : Jvm.MethodName) prog_80_method_18_code (4 : Nat) (Option.some Jvm.ClassFile.FieldType.int)) ∈ lw_all := lw_g (lw_at lw_m30 25 rfl) rfl
theorem q7464 : (Jvm.Cond.methodLink "KnowHouseModel$CanonNamesModel" (288 : Nat) ({ cls := "KnowHouseModel$CanonNamesModel", name := "makeGroups", desc := "(I)V" } : Jvm.MethodName)) ∈ lw_all := lw_g (lw_at lw_m30 26 rfl) rfl
theorem q7466 : (Jvm.Cond.instanceMethod ({ cls := "KnowHouseModel$CanonNamesModel", name := "makeGroups", desc := "(I)V" } : Jvm.MethodName)) ∈ lw_all := lw_g (lw_at lw_m30 28 rfl) rfl
theorem q7467 : (Jvm.Cond.code ({ cls := "KnowHouseModel$CanonNamesModel", name := "makeGroups", desc := "(I)V" } : Jvm.MethodName) prog_80_method_21_code (6 : Nat) (Option.none : Option Jvm.ClassFile.FieldType)) ∈ lw_all := lw_g (lw_at lw_m30 29 rfl) rfl
theorem q7468 : (Jvm.Cond.methodLink "KnowHouseModel$CanonNamesModel" (308 : Nat) ({ cls := "KnowHouseModel$CanonNamesModel", name := "namings", desc := "()J" } : Jvm.MethodName)) ∈ lw_all := lw_g (lw_at lw_m30 30 rfl) rfl
theorem q7470 : (Jvm.Cond.instanceMethod ({ cls := "KnowHouseModel$CanonNamesModel", name := "namings", desc := "()J" } : Jvm.MethodName)) ∈ lw_all := lw_g (lw_at lw_m30 32 rfl) rfl
theorem q7471 : (Jvm.Cond.code ({ cls := "KnowHouseModel$CanonNamesModel", name := "namings", desc := "()J" } : Jvm.MethodName) prog_80_method_33_code (6 : Nat) (Option.some Jvm.ClassFile.FieldType.long)) ∈ lw_all := lw_g (lw_at lw_m30 33 rfl) rfl
theorem q7472 : (Jvm.Cond.methodLink "KnowHouseModel$CanonNamesModel" (312 : Nat) ({ cls := "KnowHouseModel$CanonNamesModel", name := "begin", desc := "(I)V" } : Jvm.MethodName)) ∈ lw_all := lw_g (lw_at lw_m30 34 rfl) rfl
theorem q7474 : (Jvm.Cond.instanceMethod ({ cls := "KnowHouseModel$CanonNamesModel", name := "begin", desc := "(I)V" } : Jvm.MethodName)) ∈ lw_all := lw_g (lw_at lw_m30 36 rfl) rfl
theorem q7475 : (Jvm.Cond.code ({ cls := "KnowHouseModel$CanonNamesModel", name := "begin", desc := "(I)V" } : Jvm.MethodName) prog_80_method_27_code (3 : Nat) (Option.none : Option Jvm.ClassFile.FieldType)) ∈ lw_all := lw_g (lw_at lw_m30 37 rfl) rfl
theorem q7476 : (Jvm.Cond.methodLink "KnowHouseModel$CanonNamesModel" (315 : Nat) ({ cls := "KnowHouseModel$CanonNamesModel", name := "isNaming", desc := "(I)Z" } : Jvm.MethodName)) ∈ lw_all := lw_g (lw_at lw_m30 38 rfl) rfl
theorem q7478 : (Jvm.Cond.instanceMethod ({ cls := "KnowHouseModel$CanonNamesModel", name := "isNaming", desc := "(I)Z" } : Jvm.MethodName)) ∈ lw_all := lw_g (lw_at lw_m30 40 rfl) rfl
theorem q7479 : (Jvm.Cond.code ({ cls := "KnowHouseModel$CanonNamesModel", name := "isNaming", desc := "(I)Z" } : Jvm.MethodName) prog_80_method_28_code (4 : Nat) (Option.some Jvm.ClassFile.FieldType.boolean)) ∈ lw_all := lw_g (lw_at lw_m30 41 rfl) rfl
theorem q7480 : (Jvm.Cond.methodLink "KnowHouseModel$CanonNamesModel" (318 : Nat) ({ cls := "KnowHouseModel$CanonNamesModel", name := "makeRow", desc := "()V" } : Jvm.MethodName)) ∈ lw_all := lw_g (lw_at lw_m30 42 rfl) rfl
theorem q7482 : (Jvm.Cond.instanceMethod ({ cls := "KnowHouseModel$CanonNamesModel", name := "makeRow", desc := "()V" } : Jvm.MethodName)) ∈ lw_all := lw_g (lw_at lw_m30 44 rfl) rfl
theorem q7483 : (Jvm.Cond.code ({ cls := "KnowHouseModel$CanonNamesModel", name := "makeRow", desc := "()V" } : Jvm.MethodName) prog_80_method_31_code (9 : Nat) (Option.none : Option Jvm.ClassFile.FieldType)) ∈ lw_all := lw_g (lw_at lw_m30 45 rfl) rfl
theorem q7484 : (Jvm.Cond.methodLink "KnowHouseModel$CanonNamesModel" (300 : Nat) ({ cls := "KnowHouseModel$CanonNamesModel", name := "numbered", desc := "(I)I" } : Jvm.MethodName)) ∈ lw_all := lw_g (lw_at lw_m30 46 rfl) rfl
theorem q7486 : (Jvm.Cond.instanceMethod ({ cls := "KnowHouseModel$CanonNamesModel", name := "numbered", desc := "(I)I" } : Jvm.MethodName)) ∈ lw_all := lw_g (lw_at lw_m30 48 rfl) rfl
theorem q7487 : (Jvm.Cond.code ({ cls := "KnowHouseModel$CanonNamesModel", name := "numbered", desc := "(I)I" } : Jvm.MethodName) prog_80_method_30_code (2 : Nat) (Option.some Jvm.ClassFile.FieldType.int)) ∈ lw_all := lw_g (lw_at lw_m30 49 rfl) rfl
theorem q7488 : (Jvm.Cond.methodLink "KnowHouseModel$CanonNamesModel" (304 : Nat) ({ cls := "KnowHouseModel$CanonNamesModel", name := "compareTriples", desc := "([II[II)I" } : Jvm.MethodName)) ∈ lw_all := lw_g (lw_at lw_m30 50 rfl) rfl
theorem q7489 : (Jvm.Cond.static ({ cls := "KnowHouseModel$CanonNamesModel", name := "compareTriples", desc := "([II[II)I" } : Jvm.MethodName)) ∈ lw_all := lw_g (lw_at lw_m30 51 rfl) rfl
theorem q7490 : (Jvm.Cond.code ({ cls := "KnowHouseModel$CanonNamesModel", name := "compareTriples", desc := "([II[II)I" } : Jvm.MethodName) prog_80_method_29_code (5 : Nat) (Option.some Jvm.ClassFile.FieldType.int)) ∈ lw_all := lw_g (lw_at lw_m30 52 rfl) rfl
theorem q7491 : (Jvm.Cond.methodLink "KnowHouseModel$CanonNamesModel" (321 : Nat) ({ cls := "KnowHouseModel$CanonNamesModel", name := "compareForm", desc := "()I" } : Jvm.MethodName)) ∈ lw_all := lw_g (lw_at lw_m30 53 rfl) rfl
theorem q7493 : (Jvm.Cond.instanceMethod ({ cls := "KnowHouseModel$CanonNamesModel", name := "compareForm", desc := "()I" } : Jvm.MethodName)) ∈ lw_all := lw_g (lw_at lw_m30 55 rfl) rfl
theorem q7494 : (Jvm.Cond.code ({ cls := "KnowHouseModel$CanonNamesModel", name := "compareForm", desc := "()I" } : Jvm.MethodName) prog_80_method_32_code (3 : Nat) (Option.some Jvm.ClassFile.FieldType.int)) ∈ lw_all := lw_g (lw_at lw_m30 56 rfl) rfl
theorem q7495 : (Jvm.Cond.methodLink "KnowHouseModel$CanonNamesModel" (325 : Nat) ({ cls := "KnowHouseModel$CanonNamesModel", name := "take", desc := "(I)V" } : Jvm.MethodName)) ∈ lw_all := lw_g (lw_at lw_m30 57 rfl) rfl
theorem q7497 : (Jvm.Cond.instanceMethod ({ cls := "KnowHouseModel$CanonNamesModel", name := "take", desc := "(I)V" } : Jvm.MethodName)) ∈ lw_all := lw_g (lw_at lw_m30 59 rfl) rfl
theorem q7498 : (Jvm.Cond.code ({ cls := "KnowHouseModel$CanonNamesModel", name := "take", desc := "(I)V" } : Jvm.MethodName) prog_80_method_35_code (3 : Nat) (Option.none : Option Jvm.ClassFile.FieldType)) ∈ lw_all := lw_g (lw_at lw_m30 60 rfl) rfl
theorem q7499 : (Jvm.Cond.methodLink "KnowHouseModel$CanonNamesModel" (328 : Nat) ({ cls := "KnowHouseModel$CanonNamesModel", name := "turn", desc := "(I)Z" } : Jvm.MethodName)) ∈ lw_all := lw_g (lw_at lw_m30 61 rfl) rfl
theorem q7501 : (Jvm.Cond.instanceMethod ({ cls := "KnowHouseModel$CanonNamesModel", name := "turn", desc := "(I)Z" } : Jvm.MethodName)) ∈ lw_all := lw_g (lw_at lw_m30 63 rfl) rfl
theorem q7502 : (Jvm.Cond.code ({ cls := "KnowHouseModel$CanonNamesModel", name := "turn", desc := "(I)Z" } : Jvm.MethodName) prog_80_method_25_code (5 : Nat) (Option.some Jvm.ClassFile.FieldType.boolean)) ∈ lw_all := lw_g (lw_at lw_m30 64 rfl) rfl
theorem q7503 : (Jvm.Cond.methodLink "KnowHouseModel$CanonNamesModel" (297 : Nat) ({ cls := "KnowHouseModel$CanonNamesModel", name := "change", desc := "(II)V" } : Jvm.MethodName)) ∈ lw_all := lw_g (lw_at lw_m30 65 rfl) rfl
theorem q7505 : (Jvm.Cond.instanceMethod ({ cls := "KnowHouseModel$CanonNamesModel", name := "change", desc := "(II)V" } : Jvm.MethodName)) ∈ lw_all := lw_g (lw_at lw_m30 67 rfl) rfl
theorem q7506 : (Jvm.Cond.code ({ cls := "KnowHouseModel$CanonNamesModel", name := "change", desc := "(II)V" } : Jvm.MethodName) prog_80_method_26_code (4 : Nat) (Option.none : Option Jvm.ClassFile.FieldType)) ∈ lw_all := lw_g (lw_at lw_m30 68 rfl) rfl
theorem q7511 : (Jvm.Cond.methodLink "KnowHouseModel$CanonNamesModel" (346 : Nat) ({ cls := "KnowHouseModel$CanonNamesModel", name := "ways", desc := "(I)I" } : Jvm.MethodName)) ∈ lw_all := lw_g (lw_at lw_m30 73 rfl) rfl
theorem q7512 : (Jvm.Cond.instanceMethod ({ cls := "KnowHouseModel$CanonNamesModel", name := "ways", desc := "(I)I" } : Jvm.MethodName)) ∈ lw_all := lw_g (lw_at lw_m30 74 rfl) rfl
theorem q7513 : (Jvm.Cond.selects "KnowHouseModel$CanonNamesModel" ({ cls := "KnowHouseModel$CanonNamesModel", name := "ways", desc := "(I)I" } : Jvm.MethodName) ({ cls := "KnowHouseModel$CanonNamesModel", name := "ways", desc := "(I)I" } : Jvm.MethodName)) ∈ lw_all := lw_g (lw_at lw_m30 75 rfl) rfl
theorem q7514 : (Jvm.Cond.code ({ cls := "KnowHouseModel$CanonNamesModel", name := "ways", desc := "(I)I" } : Jvm.MethodName) prog_80_method_42_code (5 : Nat) (Option.some Jvm.ClassFile.FieldType.int)) ∈ lw_all := lw_g (lw_at lw_m30 76 rfl) rfl
theorem q7515 : (Jvm.Cond.methodLink "KnowHouseModel$CanonNamesModel" (340 : Nat) ({ cls := "KnowHouseModel$CanonNamesModel", name := "isKept", desc := "(I)Z" } : Jvm.MethodName)) ∈ lw_all := lw_g (lw_at lw_m30 77 rfl) rfl
theorem q7517 : (Jvm.Cond.instanceMethod ({ cls := "KnowHouseModel$CanonNamesModel", name := "isKept", desc := "(I)Z" } : Jvm.MethodName)) ∈ lw_all := lw_g (lw_at lw_m30 79 rfl) rfl
theorem q7518 : (Jvm.Cond.code ({ cls := "KnowHouseModel$CanonNamesModel", name := "isKept", desc := "(I)Z" } : Jvm.MethodName) prog_80_method_40_code (2 : Nat) (Option.some Jvm.ClassFile.FieldType.boolean)) ∈ lw_all := lw_g (lw_at lw_m30 80 rfl) rfl
theorem q7519 : (Jvm.Cond.methodLink "KnowHouseModel$CanonNamesModel" (343 : Nat) ({ cls := "KnowHouseModel$CanonNamesModel", name := "becomes", desc := "(I)Z" } : Jvm.MethodName)) ∈ lw_all := lw_g (lw_at lw_m30 81 rfl) rfl
theorem q7521 : (Jvm.Cond.instanceMethod ({ cls := "KnowHouseModel$CanonNamesModel", name := "becomes", desc := "(I)Z" } : Jvm.MethodName)) ∈ lw_all := lw_g (lw_at lw_m30 83 rfl) rfl
theorem q7522 : (Jvm.Cond.code ({ cls := "KnowHouseModel$CanonNamesModel", name := "becomes", desc := "(I)Z" } : Jvm.MethodName) prog_80_method_41_code (4 : Nat) (Option.some Jvm.ClassFile.FieldType.boolean)) ∈ lw_all := lw_g (lw_at lw_m30 84 rfl) rfl
theorem gX47_199 : GoodIn lw_all (wsV RX47 199 RX47 yX47_digestOf (ws_ yX47_digestOf cX47_digestOf 4 (Option.none : Option Jvm.ClassFile.FieldType))) := lw_V q5958 q5960 qs225 q542 q5961
theorem gX47_203 : GoodIn lw_all (wsV RX47 203 RX47 yX47_octetsOf (ws_ yX47_octetsOf cX47_octetsOf 2 (Option.none : Option Jvm.ClassFile.FieldType))) := lw_V q5980 q5982 qs227 q542 q5983
theorem gX47_226 : GoodIn lw_all (wsV RX47 226 RX47 yX47_block (ws_ yX47_block cX47_block 23 (Option.none : Option Jvm.ClassFile.FieldType))) := lw_V q5971 q5973 qs226 q542 q5974
theorem gX47_231 : GoodIn lw_all (va_wsS RX47 231 yX47_turned (ws_ yX47_turned cX47_turned 3 (Option.some Jvm.ClassFile.FieldType.long))) := lw_S q5976 q5977 q542 q5978
theorem gX47_238 : GoodIn lw_all (wsV RX47 238 RX47 yX47_say (ws_ yX47_say cX47_say 2 (Option.none : Option Jvm.ClassFile.FieldType))) := lw_V q7449 q7451 qs270 q542 q7452
theorem gX47_245 : GoodIn lw_all (va_wsS RX47 245 yX47_at (ws_ yX47_at cX47_at 2 (Option.some Jvm.ClassFile.FieldType.int))) := lw_S q7424 q7425 q542 q7426
theorem gX47_249 : GoodIn lw_all (wsV RX47 249 RX47 yX47_isPoint (ws_ yX47_isPoint cX47_isPoint 2 (Option.some Jvm.ClassFile.FieldType.boolean))) := lw_V q7416 q7418 qs264 q542 q7419
theorem gX47_253 : GoodIn lw_all (wsV RX47 253 RX47 yX47_find (ws_ yX47_find cX47_find 7 (Option.some Jvm.ClassFile.FieldType.int))) := lw_V q7420 q7422 qs265 q542 q7423
theorem gX47_262 : GoodIn lw_all (wsV RX47 262 RX47 yX47_describe (ws_ yX47_describe cX47_describe 8 (Option.none : Option Jvm.ClassFile.FieldType))) := lw_V q7440 q7442 qs268 q542 q7443
theorem gX47_266 : GoodIn lw_all (wsV RX47 266 RX47 yX47_sayNumber (ws_ yX47_sayNumber cX47_sayNumber 4 (Option.none : Option Jvm.ClassFile.FieldType))) := lw_V q7445 q7447 qs269 q542 q7448
theorem gX47_270 : GoodIn lw_all (wsV RX47 270 RX47 yX47_isBefore (ws_ yX47_isBefore cX47_isBefore 8 (Option.some Jvm.ClassFile.FieldType.boolean))) := lw_V q7453 q7455 qs271 q542 q7456
theorem gX47_274 : GoodIn lw_all (va_wsS RX47 274 yX47_compare (ws_ yX47_compare cX47_compare 4 (Option.some Jvm.ClassFile.FieldType.int))) := lw_S q7461 q7462 q542 q7463
theorem gX47_281 : GoodIn lw_all (wsV RX47 281 RX47 yX47_next (ws_ yX47_next cX47_next 5 (Option.none : Option Jvm.ClassFile.FieldType))) := lw_V q7436 q7438 qs267 q542 q7439
theorem gX47_284 : GoodIn lw_all (wsV RX47 284 RX47 yX47_different (ws_ yX47_different cX47_different 6 (Option.some Jvm.ClassFile.FieldType.int))) := lw_V q7457 q7459 qs272 q542 q7460
theorem gX47_288 : GoodIn lw_all (wsV RX47 288 RX47 yX47_makeGroups (ws_ yX47_makeGroups cX47_makeGroups 6 (Option.none : Option Jvm.ClassFile.FieldType))) := lw_V q7464 q7466 qs273 q542 q7467
theorem gX47_294 : GoodIn lw_all (wsV RX47 294 RX47 yX47_makeHashes (ws_ yX47_makeHashes cX47_makeHashes 5 (Option.none : Option Jvm.ClassFile.FieldType))) := lw_V q7432 q7434 qs266 q542 q7435
theorem gX47_297 : GoodIn lw_all (wsV RX47 297 RX47 yX47_change (ws_ yX47_change cX47_change 4 (Option.none : Option Jvm.ClassFile.FieldType))) := lw_V q7503 q7505 qs282 q542 q7506
theorem gX47_300 : GoodIn lw_all (wsV RX47 300 RX47 yX47_numbered (ws_ yX47_numbered cX47_numbered 2 (Option.some Jvm.ClassFile.FieldType.int))) := lw_V q7484 q7486 qs278 q542 q7487
theorem gX47_304 : GoodIn lw_all (va_wsS RX47 304 yX47_compareTriples (ws_ yX47_compareTriples cX47_compareTriples 5 (Option.some Jvm.ClassFile.FieldType.int))) := lw_S q7488 q7489 q542 q7490
theorem gX47_308 : GoodIn lw_all (wsV RX47 308 RX47 yX47_namings (ws_ yX47_namings cX47_namings 6 (Option.some Jvm.ClassFile.FieldType.long))) := lw_V q7468 q7470 qs274 q542 q7471
theorem gX47_312 : GoodIn lw_all (wsV RX47 312 RX47 yX47_begin (ws_ yX47_begin cX47_begin 3 (Option.none : Option Jvm.ClassFile.FieldType))) := lw_V q7472 q7474 qs275 q542 q7475
theorem gX47_315 : GoodIn lw_all (wsV RX47 315 RX47 yX47_isNaming (ws_ yX47_isNaming cX47_isNaming 4 (Option.some Jvm.ClassFile.FieldType.boolean))) := lw_V q7476 q7478 qs276 q542 q7479
theorem gX47_318 : GoodIn lw_all (wsV RX47 318 RX47 yX47_makeRow (ws_ yX47_makeRow cX47_makeRow 9 (Option.none : Option Jvm.ClassFile.FieldType))) := lw_V q7480 q7482 qs277 q542 q7483
theorem gX47_321 : GoodIn lw_all (wsV RX47 321 RX47 yX47_compareForm (ws_ yX47_compareForm cX47_compareForm 3 (Option.some Jvm.ClassFile.FieldType.int))) := lw_V q7491 q7493 qs279 q542 q7494
theorem gX47_325 : GoodIn lw_all (wsV RX47 325 RX47 yX47_take (ws_ yX47_take cX47_take 3 (Option.none : Option Jvm.ClassFile.FieldType))) := lw_V q7495 q7497 qs280 q542 q7498
theorem gX47_328 : GoodIn lw_all (wsV RX47 328 RX47 yX47_turn (ws_ yX47_turn cX47_turn 5 (Option.some Jvm.ClassFile.FieldType.boolean))) := lw_V q7499 q7501 qs281 q542 q7502
theorem gX47_340 : GoodIn lw_all (wsV RX47 340 RX47 yX47_isKept (ws_ yX47_isKept cX47_isKept 2 (Option.some Jvm.ClassFile.FieldType.boolean))) := lw_V q7515 q7517 qs283 q542 q7518
theorem gX47_343 : GoodIn lw_all (wsV RX47 343 RX47 yX47_becomes (ws_ yX47_becomes cX47_becomes 4 (Option.some Jvm.ClassFile.FieldType.boolean))) := lw_V q7519 q7521 qs284 q542 q7522
theorem gX47_346 : GoodIn lw_all (wsV RX47 346 RX47 yX47_ways (ws_ yX47_ways cX47_ways 5 (Option.some Jvm.ClassFile.FieldType.int))) := lw_V q7511 q7512 q7513 q542 q7514
theorem hX47_at : yX47_at.cls ≠ "java/lang/invoke/MethodHandle" ∧ yX47_at.cls ≠ "java/lang/invoke/VarHandle" ∧ (parseMethodDescriptor yX47_at.desc).map (fun d => d.parameters.length) = some 2 := by decide +kernel
theorem hX47_becomes : yX47_becomes.cls = RX47 ∧ yX47_becomes.cls ≠ "java/lang/invoke/MethodHandle" ∧ yX47_becomes.cls ≠ "java/lang/invoke/VarHandle" ∧ (parseMethodDescriptor yX47_becomes.desc).map (fun d => d.parameters.length) = some 1 := by decide +kernel
theorem hX47_begin : yX47_begin.cls = RX47 ∧ yX47_begin.cls ≠ "java/lang/invoke/MethodHandle" ∧ yX47_begin.cls ≠ "java/lang/invoke/VarHandle" ∧ (parseMethodDescriptor yX47_begin.desc).map (fun d => d.parameters.length) = some 1 := by decide +kernel
theorem hX47_block : yX47_block.cls = RX47 ∧ yX47_block.cls ≠ "java/lang/invoke/MethodHandle" ∧ yX47_block.cls ≠ "java/lang/invoke/VarHandle" ∧ (parseMethodDescriptor yX47_block.desc).map (fun d => d.parameters.length) = some 1 := by decide +kernel
theorem hX47_change : yX47_change.cls = RX47 ∧ yX47_change.cls ≠ "java/lang/invoke/MethodHandle" ∧ yX47_change.cls ≠ "java/lang/invoke/VarHandle" ∧ (parseMethodDescriptor yX47_change.desc).map (fun d => d.parameters.length) = some 2 := by decide +kernel
theorem hX47_compare : yX47_compare.cls ≠ "java/lang/invoke/MethodHandle" ∧ yX47_compare.cls ≠ "java/lang/invoke/VarHandle" ∧ (parseMethodDescriptor yX47_compare.desc).map (fun d => d.parameters.length) = some 3 := by decide +kernel
theorem hX47_compareForm : yX47_compareForm.cls = RX47 ∧ yX47_compareForm.cls ≠ "java/lang/invoke/MethodHandle" ∧ yX47_compareForm.cls ≠ "java/lang/invoke/VarHandle" ∧ (parseMethodDescriptor yX47_compareForm.desc).map (fun d => d.parameters.length) = some 0 := by decide +kernel
theorem hX47_compareTriples : yX47_compareTriples.cls ≠ "java/lang/invoke/MethodHandle" ∧ yX47_compareTriples.cls ≠ "java/lang/invoke/VarHandle" ∧ (parseMethodDescriptor yX47_compareTriples.desc).map (fun d => d.parameters.length) = some 4 := by decide +kernel
theorem hX47_describe : yX47_describe.cls = RX47 ∧ yX47_describe.cls ≠ "java/lang/invoke/MethodHandle" ∧ yX47_describe.cls ≠ "java/lang/invoke/VarHandle" ∧ (parseMethodDescriptor yX47_describe.desc).map (fun d => d.parameters.length) = some 2 := by decide +kernel
theorem hX47_different : yX47_different.cls = RX47 ∧ yX47_different.cls ≠ "java/lang/invoke/MethodHandle" ∧ yX47_different.cls ≠ "java/lang/invoke/VarHandle" ∧ (parseMethodDescriptor yX47_different.desc).map (fun d => d.parameters.length) = some 1 := by decide +kernel
theorem hX47_digestOf : yX47_digestOf.cls = RX47 ∧ yX47_digestOf.cls ≠ "java/lang/invoke/MethodHandle" ∧ yX47_digestOf.cls ≠ "java/lang/invoke/VarHandle" ∧ (parseMethodDescriptor yX47_digestOf.desc).map (fun d => d.parameters.length) = some 1 := by decide +kernel
theorem hX47_find : yX47_find.cls = RX47 ∧ yX47_find.cls ≠ "java/lang/invoke/MethodHandle" ∧ yX47_find.cls ≠ "java/lang/invoke/VarHandle" ∧ (parseMethodDescriptor yX47_find.desc).map (fun d => d.parameters.length) = some 4 := by decide +kernel
theorem hX47_isBefore : yX47_isBefore.cls = RX47 ∧ yX47_isBefore.cls ≠ "java/lang/invoke/MethodHandle" ∧ yX47_isBefore.cls ≠ "java/lang/invoke/VarHandle" ∧ (parseMethodDescriptor yX47_isBefore.desc).map (fun d => d.parameters.length) = some 2 := by decide +kernel
theorem hX47_isKept : yX47_isKept.cls = RX47 ∧ yX47_isKept.cls ≠ "java/lang/invoke/MethodHandle" ∧ yX47_isKept.cls ≠ "java/lang/invoke/VarHandle" ∧ (parseMethodDescriptor yX47_isKept.desc).map (fun d => d.parameters.length) = some 1 := by decide +kernel
theorem hX47_isNaming : yX47_isNaming.cls = RX47 ∧ yX47_isNaming.cls ≠ "java/lang/invoke/MethodHandle" ∧ yX47_isNaming.cls ≠ "java/lang/invoke/VarHandle" ∧ (parseMethodDescriptor yX47_isNaming.desc).map (fun d => d.parameters.length) = some 1 := by decide +kernel
theorem hX47_isPoint : yX47_isPoint.cls = RX47 ∧ yX47_isPoint.cls ≠ "java/lang/invoke/MethodHandle" ∧ yX47_isPoint.cls ≠ "java/lang/invoke/VarHandle" ∧ (parseMethodDescriptor yX47_isPoint.desc).map (fun d => d.parameters.length) = some 1 := by decide +kernel
theorem hX47_makeGroups : yX47_makeGroups.cls = RX47 ∧ yX47_makeGroups.cls ≠ "java/lang/invoke/MethodHandle" ∧ yX47_makeGroups.cls ≠ "java/lang/invoke/VarHandle" ∧ (parseMethodDescriptor yX47_makeGroups.desc).map (fun d => d.parameters.length) = some 1 := by decide +kernel
theorem hX47_makeHashes : yX47_makeHashes.cls = RX47 ∧ yX47_makeHashes.cls ≠ "java/lang/invoke/MethodHandle" ∧ yX47_makeHashes.cls ≠ "java/lang/invoke/VarHandle" ∧ (parseMethodDescriptor yX47_makeHashes.desc).map (fun d => d.parameters.length) = some 0 := by decide +kernel
theorem hX47_makeRow : yX47_makeRow.cls = RX47 ∧ yX47_makeRow.cls ≠ "java/lang/invoke/MethodHandle" ∧ yX47_makeRow.cls ≠ "java/lang/invoke/VarHandle" ∧ (parseMethodDescriptor yX47_makeRow.desc).map (fun d => d.parameters.length) = some 0 := by decide +kernel
theorem hX47_namings : yX47_namings.cls = RX47 ∧ yX47_namings.cls ≠ "java/lang/invoke/MethodHandle" ∧ yX47_namings.cls ≠ "java/lang/invoke/VarHandle" ∧ (parseMethodDescriptor yX47_namings.desc).map (fun d => d.parameters.length) = some 0 := by decide +kernel
theorem hX47_next : yX47_next.cls = RX47 ∧ yX47_next.cls ≠ "java/lang/invoke/MethodHandle" ∧ yX47_next.cls ≠ "java/lang/invoke/VarHandle" ∧ (parseMethodDescriptor yX47_next.desc).map (fun d => d.parameters.length) = some 1 := by decide +kernel
theorem hX47_numbered : yX47_numbered.cls = RX47 ∧ yX47_numbered.cls ≠ "java/lang/invoke/MethodHandle" ∧ yX47_numbered.cls ≠ "java/lang/invoke/VarHandle" ∧ (parseMethodDescriptor yX47_numbered.desc).map (fun d => d.parameters.length) = some 1 := by decide +kernel
theorem hX47_octetsOf : yX47_octetsOf.cls = RX47 ∧ yX47_octetsOf.cls ≠ "java/lang/invoke/MethodHandle" ∧ yX47_octetsOf.cls ≠ "java/lang/invoke/VarHandle" ∧ (parseMethodDescriptor yX47_octetsOf.desc).map (fun d => d.parameters.length) = some 0 := by decide +kernel
theorem hX47_say : yX47_say.cls = RX47 ∧ yX47_say.cls ≠ "java/lang/invoke/MethodHandle" ∧ yX47_say.cls ≠ "java/lang/invoke/VarHandle" ∧ (parseMethodDescriptor yX47_say.desc).map (fun d => d.parameters.length) = some 1 := by decide +kernel
theorem hX47_sayNumber : yX47_sayNumber.cls = RX47 ∧ yX47_sayNumber.cls ≠ "java/lang/invoke/MethodHandle" ∧ yX47_sayNumber.cls ≠ "java/lang/invoke/VarHandle" ∧ (parseMethodDescriptor yX47_sayNumber.desc).map (fun d => d.parameters.length) = some 1 := by decide +kernel
theorem hX47_take : yX47_take.cls = RX47 ∧ yX47_take.cls ≠ "java/lang/invoke/MethodHandle" ∧ yX47_take.cls ≠ "java/lang/invoke/VarHandle" ∧ (parseMethodDescriptor yX47_take.desc).map (fun d => d.parameters.length) = some 1 := by decide +kernel
theorem hX47_turn : yX47_turn.cls = RX47 ∧ yX47_turn.cls ≠ "java/lang/invoke/MethodHandle" ∧ yX47_turn.cls ≠ "java/lang/invoke/VarHandle" ∧ (parseMethodDescriptor yX47_turn.desc).map (fun d => d.parameters.length) = some 1 := by decide +kernel
theorem hX47_turned : yX47_turned.cls ≠ "java/lang/invoke/MethodHandle" ∧ yX47_turned.cls ≠ "java/lang/invoke/VarHandle" ∧ (parseMethodDescriptor yX47_turned.desc).map (fun d => d.parameters.length) = some 2 := by decide +kernel
theorem hX47_ways : yX47_ways.cls = RX47 ∧ yX47_ways.cls ≠ "java/lang/invoke/MethodHandle" ∧ yX47_ways.cls ≠ "java/lang/invoke/VarHandle" ∧ (parseMethodDescriptor yX47_ways.desc).map (fun d => d.parameters.length) = some 1 := by decide +kernel
