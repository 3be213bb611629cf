/-! room VR (printed by tools/zgen2.py) -/
set_option maxRecDepth 100000
def RX32 : String := "KnowHouse$VirtualRewrite"
def TX32 : u_T := fun k => match k with
  | 0 => ("KnowHouse$VirtualRewrite", "tables", "[LKnowHouse$VirtualRewrite$Table;", true)
  | 1 => ("KnowHouse$VirtualRewrite", "mappings", "[LKnowHouse$VirtualRewrite$Mapping;", true)
  | 2 => ("KnowHouse$VirtualRewrite", "mappingCount", "I", false)
  | 3 => ("KnowHouse$VirtualRewrite", "atoms", "[LKnowHouse$VirtualRewrite$Atom;", true)
  | 4 => ("KnowHouse$VirtualRewrite", "atomCount", "I", false)
  | 5 => ("KnowHouse$VirtualRewrite", "spanOf", "[I", true)
  | 6 => ("KnowHouse$VirtualRewrite", "spanFrom", "[I", true)
  | 7 => ("KnowHouse$VirtualRewrite", "spanTo", "[I", true)
  | 8 => ("KnowHouse$VirtualRewrite", "spans", "I", false)
  | 9 => ("KnowHouse$VirtualRewrite", "unions", "[LKnowHouse$VirtualRewrite$Union;", true)
  | 10 => ("KnowHouse$VirtualRewrite", "unionCount", "I", false)
  | 11 => ("KnowHouse$VirtualRewrite", "large", "Z", false)
  | 12 => ("KnowHouse$VirtualRewrite", "known", "Z", false)
  | 13 => ("KnowHouse$VirtualRewrite", "chosen", "[I", true)
  | 14 => ("KnowHouse$VirtualRewrite", "kinds", "[I", true)
  | 15 => ("KnowHouse$VirtualRewrite", "given", "[I", true)
  | 16 => ("KnowHouse$VirtualRewrite", "rowOf", "[I", true)
  | 17 => ("KnowHouse$VirtualRewrite", "answers", "[I", true)
  | 18 => ("KnowHouse$VirtualRewrite", "foundBy", "[I", true)
  | 19 => ("KnowHouse$VirtualRewrite", "firstBy", "[I", true)
  | 20 => ("KnowHouse$VirtualRewrite", "lastBy", "[I", true)
  | 21 => ("KnowHouse$VirtualRewrite", "answerCount", "I", false)
  | 22 => ("KnowHouse$VirtualRewrite", "asked", "I", false)
  | _ => ("KnowHouse$VirtualRewrite", "tooMany", "Z", false)
def tyX32 : Nat → FieldType := fun k => match k with
  | 0 => .array (.object "KnowHouse$VirtualRewrite$Table")
  | 1 => .array (.object "KnowHouse$VirtualRewrite$Mapping")
  | 2 => .int
  | 3 => .array (.object "KnowHouse$VirtualRewrite$Atom")
  | 4 => .int
  | 5 => .array .int
  | 6 => .array .int
  | 7 => .array .int
  | 8 => .int
  | 9 => .array (.object "KnowHouse$VirtualRewrite$Union")
  | 10 => .int
  | 11 => .boolean
  | 12 => .boolean
  | 13 => .array .int
  | 14 => .array .int
  | 15 => .array .int
  | 16 => .array .int
  | 17 => .array .int
  | 18 => .array .int
  | 19 => .array .int
  | 20 => .array .int
  | 21 => .int
  | 22 => .int
  | _ => .boolean
abbrev wsX320 : List Cond := u_ws RX32 TX32 24
theorem nmX32 : ∀ a, a < 24 → ∀ b, b < 24 → a ≠ b → (TX32 a).2.1 ≠ (TX32 b).2.1 := by decide +kernel
theorem tyX32_ok : ∀ k, k < 24 → parseFieldDescriptor (TX32 k).2.2.1 = some (tyX32 k) := by decide +kernel
abbrev cX32_init : ByteArray := prog_72_method_1_code
def yX32_init : MethodName := ⟨RX32, "<init>", "()V"⟩
theorem dX32_init_0 : decode cX32_init 0 = .ok (.aload_n 0, 1) := by decide +kernel
theorem dX32_init_1 : decode cX32_init 1 = .ok (.invokespecial 1, 3) := by decide +kernel
theorem dX32_init_4 : decode cX32_init 4 = .ok (.aload_n 0, 1) := by decide +kernel
theorem dX32_init_5 : decode cX32_init 5 = .ok (.iconst 4, 1) := by decide +kernel
theorem dX32_init_6 : decode cX32_init 6 = .ok (.anewarray 7, 3) := by decide +kernel
theorem dX32_init_9 : decode cX32_init 9 = .ok (.putfield 9, 3) := by decide +kernel
theorem dX32_init_12 : decode cX32_init 12 = .ok (.aload_n 0, 1) := by decide +kernel
theorem dX32_init_13 : decode cX32_init 13 = .ok (.bipush 12, 2) := by decide +kernel
theorem dX32_init_15 : decode cX32_init 15 = .ok (.anewarray 15, 3) := by decide +kernel
theorem dX32_init_18 : decode cX32_init 18 = .ok (.putfield 17, 3) := by decide +kernel
theorem dX32_init_21 : decode cX32_init 21 = .ok (.aload_n 0, 1) := by decide +kernel
theorem dX32_init_22 : decode cX32_init 22 = .ok (.iconst 4, 1) := by decide +kernel
theorem dX32_init_23 : decode cX32_init 23 = .ok (.anewarray 21, 3) := by decide +kernel
theorem dX32_init_26 : decode cX32_init 26 = .ok (.putfield 23, 3) := by decide +kernel
theorem dX32_init_29 : decode cX32_init 29 = .ok (.aload_n 0, 1) := by decide +kernel
theorem dX32_init_30 : decode cX32_init 30 = .ok (.iconst 4, 1) := by decide +kernel
theorem dX32_init_31 : decode cX32_init 31 = .ok (.newarray .int, 2) := by decide +kernel
theorem dX32_init_33 : decode cX32_init 33 = .ok (.putfield 27, 3) := by decide +kernel
theorem dX32_init_36 : decode cX32_init 36 = .ok (.aload_n 0, 1) := by decide +kernel
theorem dX32_init_37 : decode cX32_init 37 = .ok (.iconst 4, 1) := by decide +kernel
theorem dX32_init_38 : decode cX32_init 38 = .ok (.newarray .int, 2) := by decide +kernel
theorem dX32_init_40 : decode cX32_init 40 = .ok (.putfield 31, 3) := by decide +kernel
theorem dX32_init_43 : decode cX32_init 43 = .ok (.aload_n 0, 1) := by decide +kernel
theorem dX32_init_44 : decode cX32_init 44 = .ok (.iconst 4, 1) := by decide +kernel
theorem dX32_init_45 : decode cX32_init 45 = .ok (.newarray .int, 2) := by decide +kernel
theorem dX32_init_47 : decode cX32_init 47 = .ok (.putfield 34, 3) := by decide +kernel
theorem dX32_init_50 : decode cX32_init 50 = .ok (.aload_n 0, 1) := by decide +kernel
theorem dX32_init_51 : decode cX32_init 51 = .ok (.sipush 150, 3) := by decide +kernel
theorem dX32_init_54 : decode cX32_init 54 = .ok (.anewarray 37, 3) := by decide +kernel
theorem dX32_init_57 : decode cX32_init 57 = .ok (.putfield 39, 3) := by decide +kernel
theorem dX32_init_60 : decode cX32_init 60 = .ok (.aload_n 0, 1) := by decide +kernel
theorem dX32_init_61 : decode cX32_init 61 = .ok (.iconst 4, 1) := by decide +kernel
theorem dX32_init_62 : decode cX32_init 62 = .ok (.newarray .int, 2) := by decide +kernel
theorem dX32_init_64 : decode cX32_init 64 = .ok (.putfield 43, 3) := by decide +kernel
theorem dX32_init_67 : decode cX32_init 67 = .ok (.aload_n 0, 1) := by decide +kernel
theorem dX32_init_68 : decode cX32_init 68 = .ok (.bipush 6, 2) := by decide +kernel
theorem dX32_init_70 : decode cX32_init 70 = .ok (.newarray .int, 2) := by decide +kernel
theorem dX32_init_72 : decode cX32_init 72 = .ok (.putfield 46, 3) := by decide +kernel
theorem dX32_init_75 : decode cX32_init 75 = .ok (.aload_n 0, 1) := by decide +kernel
theorem dX32_init_76 : decode cX32_init 76 = .ok (.bipush 6, 2) := by decide +kernel
theorem dX32_init_78 : decode cX32_init 78 = .ok (.newarray .int, 2) := by decide +kernel
theorem dX32_init_80 : decode cX32_init 80 = .ok (.putfield 49, 3) := by decide +kernel
theorem dX32_init_83 : decode cX32_init 83 = .ok (.aload_n 0, 1) := by decide +kernel
theorem dX32_init_84 : decode cX32_init 84 = .ok (.iconst 4, 1) := by decide +kernel
theorem dX32_init_85 : decode cX32_init 85 = .ok (.newarray .int, 2) := by decide +kernel
theorem dX32_init_87 : decode cX32_init 87 = .ok (.putfield 52, 3) := by decide +kernel
theorem dX32_init_90 : decode cX32_init 90 = .ok (.aload_n 0, 1) := by decide +kernel
theorem dX32_init_91 : decode cX32_init 91 = .ok (.sipush 1800, 3) := by decide +kernel
theorem dX32_init_94 : decode cX32_init 94 = .ok (.newarray .int, 2) := by decide +kernel
theorem dX32_init_96 : decode cX32_init 96 = .ok (.putfield 55, 3) := by decide +kernel
theorem dX32_init_99 : decode cX32_init 99 = .ok (.aload_n 0, 1) := by decide +kernel
theorem dX32_init_100 : decode cX32_init 100 = .ok (.sipush 300, 3) := by decide +kernel
theorem dX32_init_103 : decode cX32_init 103 = .ok (.newarray .int, 2) := by decide +kernel
theorem dX32_init_105 : decode cX32_init 105 = .ok (.putfield 58, 3) := by decide +kernel
theorem dX32_init_108 : decode cX32_init 108 = .ok (.aload_n 0, 1) := by decide +kernel
theorem dX32_init_109 : decode cX32_init 109 = .ok (.sipush 300, 3) := by decide +kernel
theorem dX32_init_112 : decode cX32_init 112 = .ok (.newarray .int, 2) := by decide +kernel
theorem dX32_init_114 : decode cX32_init 114 = .ok (.putfield 61, 3) := by decide +kernel
theorem dX32_init_117 : decode cX32_init 117 = .ok (.aload_n 0, 1) := by decide +kernel
theorem dX32_init_118 : decode cX32_init 118 = .ok (.sipush 300, 3) := by decide +kernel
theorem dX32_init_121 : decode cX32_init 121 = .ok (.newarray .int, 2) := by decide +kernel
theorem dX32_init_123 : decode cX32_init 123 = .ok (.putfield 64, 3) := by decide +kernel
theorem dX32_init_126 : decode cX32_init 126 = .ok (.iconst 0, 1) := by decide +kernel
theorem dX32_init_127 : decode cX32_init 127 = .ok (.istore_n 1, 1) := by decide +kernel
theorem dX32_init_128 : decode cX32_init 128 = .ok (.iload_n 1, 1) := by decide +kernel
theorem dX32_init_129 : decode cX32_init 129 = .ok (.iconst 4, 1) := by decide +kernel
theorem dX32_init_130 : decode cX32_init 130 = .ok (.if_icmp .ge 22, 3) := by decide +kernel
theorem dX32_init_133 : decode cX32_init 133 = .ok (.aload_n 0, 1) := by decide +kernel
theorem dX32_init_134 : decode cX32_init 134 = .ok (.getfield 9, 3) := by decide +kernel
theorem dX32_init_137 : decode cX32_init 137 = .ok (.iload_n 1, 1) := by decide +kernel
theorem dX32_init_138 : decode cX32_init 138 = .ok (.new 7, 3) := by decide +kernel
theorem dX32_init_141 : decode cX32_init 141 = .ok (.dup, 1) := by decide +kernel
theorem dX32_init_142 : decode cX32_init 142 = .ok (.invokespecial 67, 3) := by decide +kernel
theorem dX32_init_145 : decode cX32_init 145 = .ok (.aastore, 1) := by decide +kernel
theorem dX32_init_146 : decode cX32_init 146 = .ok (.iinc 1 1, 3) := by decide +kernel
theorem dX32_init_149 : decode cX32_init 149 = .ok (.goto (-21), 3) := by decide +kernel
theorem dX32_init_152 : decode cX32_init 152 = .ok (.iconst 0, 1) := by decide +kernel
theorem dX32_init_153 : decode cX32_init 153 = .ok (.istore_n 1, 1) := by decide +kernel
theorem dX32_init_154 : decode cX32_init 154 = .ok (.iload_n 1, 1) := by decide +kernel
theorem dX32_init_155 : decode cX32_init 155 = .ok (.sipush 150, 3) := by decide +kernel
theorem dX32_init_158 : decode cX32_init 158 = .ok (.if_icmp .ge 22, 3) := by decide +kernel
theorem dX32_init_161 : decode cX32_init 161 = .ok (.aload_n 0, 1) := by decide +kernel
theorem dX32_init_162 : decode cX32_init 162 = .ok (.getfield 39, 3) := by decide +kernel
theorem dX32_init_165 : decode cX32_init 165 = .ok (.iload_n 1, 1) := by decide +kernel
theorem dX32_init_166 : decode cX32_init 166 = .ok (.new 37, 3) := by decide +kernel
theorem dX32_init_169 : decode cX32_init 169 = .ok (.dup, 1) := by decide +kernel
theorem dX32_init_170 : decode cX32_init 170 = .ok (.invokespecial 68, 3) := by decide +kernel
theorem dX32_init_173 : decode cX32_init 173 = .ok (.aastore, 1) := by decide +kernel
theorem dX32_init_174 : decode cX32_init 174 = .ok (.iinc 1 1, 3) := by decide +kernel
theorem dX32_init_177 : decode cX32_init 177 = .ok (.goto (-23), 3) := by decide +kernel
theorem dX32_init_180 : decode cX32_init 180 = .ok (.return_, 1) := by decide +kernel
abbrev cX32_run : ByteArray := prog_72_method_25_code
def yX32_run : MethodName := ⟨RX32, "run", "()I"⟩
theorem dX32_run_0 : decode cX32_run 0 = .ok (.aload_n 0, 1) := by decide +kernel
theorem dX32_run_1 : decode cX32_run 1 = .ok (.iconst 0, 1) := by decide +kernel
theorem dX32_run_2 : decode cX32_run 2 = .ok (.putfield 190, 3) := by decide +kernel
theorem dX32_run_5 : decode cX32_run 5 = .ok (.aload_n 0, 1) := by decide +kernel
theorem dX32_run_6 : decode cX32_run 6 = .ok (.iconst 0, 1) := by decide +kernel
theorem dX32_run_7 : decode cX32_run 7 = .ok (.putfield 193, 3) := by decide +kernel
theorem dX32_run_10 : decode cX32_run 10 = .ok (.aload_n 0, 1) := by decide +kernel
theorem dX32_run_11 : decode cX32_run 11 = .ok (.iconst 0, 1) := by decide +kernel
theorem dX32_run_12 : decode cX32_run 12 = .ok (.putfield 196, 3) := by decide +kernel
theorem dX32_run_15 : decode cX32_run 15 = .ok (.aload_n 0, 1) := by decide +kernel
theorem dX32_run_16 : decode cX32_run 16 = .ok (.invokevirtual 182, 3) := by decide +kernel
theorem dX32_run_19 : decode cX32_run 19 = .ok (.istore_n 1, 1) := by decide +kernel
theorem dX32_run_20 : decode cX32_run 20 = .ok (.iload_n 1, 1) := by decide +kernel
theorem dX32_run_21 : decode cX32_run 21 = .ok (.ifCond .ge 5, 3) := by decide +kernel
theorem dX32_run_24 : decode cX32_run 24 = .ok (.iload_n 1, 1) := by decide +kernel
theorem dX32_run_25 : decode cX32_run 25 = .ok (.ireturn, 1) := by decide +kernel
theorem dX32_run_26 : decode cX32_run 26 = .ok (.iconst 0, 1) := by decide +kernel
theorem dX32_run_27 : decode cX32_run 27 = .ok (.istore_n 2, 1) := by decide +kernel
theorem dX32_run_28 : decode cX32_run 28 = .ok (.iload_n 2, 1) := by decide +kernel
theorem dX32_run_29 : decode cX32_run 29 = .ok (.aload_n 0, 1) := by decide +kernel
theorem dX32_run_30 : decode cX32_run 30 = .ok (.getfield 130, 3) := by decide +kernel
theorem dX32_run_33 : decode cX32_run 33 = .ok (.if_icmp .ge 69, 3) := by decide +kernel
theorem dX32_run_36 : decode cX32_run 36 = .ok (.aload_n 0, 1) := by decide +kernel
theorem dX32_run_37 : decode cX32_run 37 = .ok (.getfield 23, 3) := by decide +kernel
theorem dX32_run_40 : decode cX32_run 40 = .ok (.iload_n 2, 1) := by decide +kernel
theorem dX32_run_41 : decode cX32_run 41 = .ok (.aaload, 1) := by decide +kernel
theorem dX32_run_42 : decode cX32_run 42 = .ok (.getfield 152, 3) := by decide +kernel
theorem dX32_run_45 : decode cX32_run 45 = .ok (.astore_n 3, 1) := by decide +kernel
theorem dX32_run_46 : decode cX32_run 46 = .ok (.aload_n 3, 1) := by decide +kernel
theorem dX32_run_47 : decode cX32_run 47 = .ok (.arraylength, 1) := by decide +kernel
theorem dX32_run_48 : decode cX32_run 48 = .ok (.istore 4, 2) := by decide +kernel
theorem dX32_run_50 : decode cX32_run 50 = .ok (.iconst 0, 1) := by decide +kernel
theorem dX32_run_51 : decode cX32_run 51 = .ok (.istore 5, 2) := by decide +kernel
theorem dX32_run_53 : decode cX32_run 53 = .ok (.iload 5, 2) := by decide +kernel
theorem dX32_run_55 : decode cX32_run 55 = .ok (.iload 4, 2) := by decide +kernel
theorem dX32_run_57 : decode cX32_run 57 = .ok (.if_icmp .ge 39, 3) := by decide +kernel
theorem dX32_run_60 : decode cX32_run 60 = .ok (.aload_n 3, 1) := by decide +kernel
theorem dX32_run_61 : decode cX32_run 61 = .ok (.iload 5, 2) := by decide +kernel
theorem dX32_run_63 : decode cX32_run 63 = .ok (.iaload, 1) := by decide +kernel
theorem dX32_run_64 : decode cX32_run 64 = .ok (.istore 6, 2) := by decide +kernel
theorem dX32_run_66 : decode cX32_run 66 = .ok (.aload_n 0, 1) := by decide +kernel
theorem dX32_run_67 : decode cX32_run 67 = .ok (.dup, 1) := by decide +kernel
theorem dX32_run_68 : decode cX32_run 68 = .ok (.getfield 193, 3) := by decide +kernel
theorem dX32_run_71 : decode cX32_run 71 = .ok (.iload 6, 2) := by decide +kernel
theorem dX32_run_73 : decode cX32_run 73 = .ok (.ifCond .ge 12, 3) := by decide +kernel
theorem dX32_run_76 : decode cX32_run 76 = .ok (.iconst 1, 1) := by decide +kernel
theorem dX32_run_77 : decode cX32_run 77 = .ok (.iconst (-1), 1) := by decide +kernel
theorem dX32_run_78 : decode cX32_run 78 = .ok (.iload 6, 2) := by decide +kernel
theorem dX32_run_80 : decode cX32_run 80 = .ok (.isub, 1) := by decide +kernel
theorem dX32_run_81 : decode cX32_run 81 = .ok (.ishl, 1) := by decide +kernel
theorem dX32_run_82 : decode cX32_run 82 = .ok (.goto 4, 3) := by decide +kernel
theorem dX32_run_85 : decode cX32_run 85 = .ok (.iconst 0, 1) := by decide +kernel
theorem dX32_run_86 : decode cX32_run 86 = .ok (.ior, 1) := by decide +kernel
theorem dX32_run_87 : decode cX32_run 87 = .ok (.putfield 193, 3) := by decide +kernel
theorem dX32_run_90 : decode cX32_run 90 = .ok (.iinc 5 1, 3) := by decide +kernel
theorem dX32_run_93 : decode cX32_run 93 = .ok (.goto (-40), 3) := by decide +kernel
theorem dX32_run_96 : decode cX32_run 96 = .ok (.iinc 2 1, 3) := by decide +kernel
theorem dX32_run_99 : decode cX32_run 99 = .ok (.goto (-71), 3) := by decide +kernel
theorem dX32_run_102 : decode cX32_run 102 = .ok (.iconst 0, 1) := by decide +kernel
theorem dX32_run_103 : decode cX32_run 103 = .ok (.istore_n 2, 1) := by decide +kernel
theorem dX32_run_104 : decode cX32_run 104 = .ok (.iload_n 2, 1) := by decide +kernel
theorem dX32_run_105 : decode cX32_run 105 = .ok (.aload_n 0, 1) := by decide +kernel
theorem dX32_run_106 : decode cX32_run 106 = .ok (.getfield 139, 3) := by decide +kernel
theorem dX32_run_109 : decode cX32_run 109 = .ok (.if_icmp .ge 43, 3) := by decide +kernel
theorem dX32_run_112 : decode cX32_run 112 = .ok (.aload_n 0, 1) := by decide +kernel
theorem dX32_run_113 : decode cX32_run 113 = .ok (.getfield 196, 3) := by decide +kernel
theorem dX32_run_116 : decode cX32_run 116 = .ok (.ifCond .ne 36, 3) := by decide +kernel
theorem dX32_run_119 : decode cX32_run 119 = .ok (.iconst 0, 1) := by decide +kernel
theorem dX32_run_120 : decode cX32_run 120 = .ok (.istore_n 3, 1) := by decide +kernel
theorem dX32_run_121 : decode cX32_run 121 = .ok (.iload_n 3, 1) := by decide +kernel
theorem dX32_run_122 : decode cX32_run 122 = .ok (.bipush 6, 2) := by decide +kernel
theorem dX32_run_124 : decode cX32_run 124 = .ok (.if_icmp .ge 16, 3) := by decide +kernel
theorem dX32_run_127 : decode cX32_run 127 = .ok (.aload_n 0, 1) := by decide +kernel
theorem dX32_run_128 : decode cX32_run 128 = .ok (.getfield 49, 3) := by decide +kernel
theorem dX32_run_131 : decode cX32_run 131 = .ok (.iload_n 3, 1) := by decide +kernel
theorem dX32_run_132 : decode cX32_run 132 = .ok (.iconst (-1), 1) := by decide +kernel
theorem dX32_run_133 : decode cX32_run 133 = .ok (.iastore, 1) := by decide +kernel
theorem dX32_run_134 : decode cX32_run 134 = .ok (.iinc 3 1, 3) := by decide +kernel
theorem dX32_run_137 : decode cX32_run 137 = .ok (.goto (-16), 3) := by decide +kernel
theorem dX32_run_140 : decode cX32_run 140 = .ok (.aload_n 0, 1) := by decide +kernel
theorem dX32_run_141 : decode cX32_run 141 = .ok (.iload_n 2, 1) := by decide +kernel
theorem dX32_run_142 : decode cX32_run 142 = .ok (.iconst 0, 1) := by decide +kernel
theorem dX32_run_143 : decode cX32_run 143 = .ok (.invokestatic 199, 3) := by decide +kernel
theorem dX32_run_146 : decode cX32_run 146 = .ok (.iinc 2 1, 3) := by decide +kernel
theorem dX32_run_149 : decode cX32_run 149 = .ok (.goto (-45), 3) := by decide +kernel
theorem dX32_run_152 : decode cX32_run 152 = .ok (.aload_n 0, 1) := by decide +kernel
theorem dX32_run_153 : decode cX32_run 153 = .ok (.getfield 196, 3) := by decide +kernel
theorem dX32_run_156 : decode cX32_run 156 = .ok (.ifCond .eq 8, 3) := by decide +kernel
theorem dX32_run_159 : decode cX32_run 159 = .ok (.aload_n 0, 1) := by decide +kernel
theorem dX32_run_160 : decode cX32_run 160 = .ok (.iconst 0, 1) := by decide +kernel
theorem dX32_run_161 : decode cX32_run 161 = .ok (.putfield 190, 3) := by decide +kernel
theorem dX32_run_164 : decode cX32_run 164 = .ok (.aload_n 0, 1) := by decide +kernel
theorem dX32_run_165 : decode cX32_run 165 = .ok (.getfield 196, 3) := by decide +kernel
theorem dX32_run_168 : decode cX32_run 168 = .ok (.ifCond .eq 8, 3) := by decide +kernel
theorem dX32_run_171 : decode cX32_run 171 = .ok (.bipush (-3), 2) := by decide +kernel
theorem dX32_run_173 : decode cX32_run 173 = .ok (.goto 7, 3) := by decide +kernel
theorem dX32_run_176 : decode cX32_run 176 = .ok (.aload_n 0, 1) := by decide +kernel
theorem dX32_run_177 : decode cX32_run 177 = .ok (.getfield 190, 3) := by decide +kernel
theorem dX32_run_180 : decode cX32_run 180 = .ok (.ireturn, 1) := by decide +kernel
abbrev cX32_ready : ByteArray := prog_72_method_20_code
def yX32_ready : MethodName := ⟨RX32, "ready", "()I"⟩
theorem dX32_ready_0 : decode cX32_ready 0 = .ok (.aload_n 0, 1) := by decide +kernel
theorem dX32_ready_1 : decode cX32_ready 1 = .ok (.getfield 130, 3) := by decide +kernel
theorem dX32_ready_4 : decode cX32_ready 4 = .ok (.ifCond .ne 5, 3) := by decide +kernel
theorem dX32_ready_7 : decode cX32_ready 7 = .ok (.iconst (-1), 1) := by decide +kernel
theorem dX32_ready_8 : decode cX32_ready 8 = .ok (.ireturn, 1) := by decide +kernel
theorem dX32_ready_9 : decode cX32_ready 9 = .ok (.aload_n 0, 1) := by decide +kernel
theorem dX32_ready_10 : decode cX32_ready 10 = .ok (.invokevirtual 179, 3) := by decide +kernel
theorem dX32_ready_13 : decode cX32_ready 13 = .ok (.aload_n 0, 1) := by decide +kernel
theorem dX32_ready_14 : decode cX32_ready 14 = .ok (.getfield 142, 3) := by decide +kernel
theorem dX32_ready_17 : decode cX32_ready 17 = .ok (.ifCond .eq 8, 3) := by decide +kernel
theorem dX32_ready_20 : decode cX32_ready 20 = .ok (.bipush (-3), 2) := by decide +kernel
theorem dX32_ready_22 : decode cX32_ready 22 = .ok (.goto 4, 3) := by decide +kernel
theorem dX32_ready_25 : decode cX32_ready 25 = .ok (.iconst 0, 1) := by decide +kernel
theorem dX32_ready_26 : decode cX32_ready 26 = .ok (.ireturn, 1) := by decide +kernel
abbrev cX32_make : ByteArray := prog_72_method_13_code
def yX32_make : MethodName := ⟨RX32, "make", "()V"⟩
theorem dX32_make_0 : decode cX32_make 0 = .ok (.aload_n 0, 1) := by decide +kernel
theorem dX32_make_1 : decode cX32_make 1 = .ok (.getfield 81, 3) := by decide +kernel
theorem dX32_make_4 : decode cX32_make 4 = .ok (.ifCond .eq 4, 3) := by decide +kernel
theorem dX32_make_7 : decode cX32_make 7 = .ok (.return_, 1) := by decide +kernel
theorem dX32_make_8 : decode cX32_make 8 = .ok (.aload_n 0, 1) := by decide +kernel
theorem dX32_make_9 : decode cX32_make 9 = .ok (.iconst 1, 1) := by decide +kernel
theorem dX32_make_10 : decode cX32_make 10 = .ok (.putfield 81, 3) := by decide +kernel
theorem dX32_make_13 : decode cX32_make 13 = .ok (.aload_n 0, 1) := by decide +kernel
theorem dX32_make_14 : decode cX32_make 14 = .ok (.iconst 0, 1) := by decide +kernel
theorem dX32_make_15 : decode cX32_make 15 = .ok (.putfield 139, 3) := by decide +kernel
theorem dX32_make_18 : decode cX32_make 18 = .ok (.aload_n 0, 1) := by decide +kernel
theorem dX32_make_19 : decode cX32_make 19 = .ok (.iconst 0, 1) := by decide +kernel
theorem dX32_make_20 : decode cX32_make 20 = .ok (.putfield 142, 3) := by decide +kernel
theorem dX32_make_23 : decode cX32_make 23 = .ok (.iconst 0, 1) := by decide +kernel
theorem dX32_make_24 : decode cX32_make 24 = .ok (.istore_n 1, 1) := by decide +kernel
theorem dX32_make_25 : decode cX32_make 25 = .ok (.iload_n 1, 1) := by decide +kernel
theorem dX32_make_26 : decode cX32_make 26 = .ok (.bipush 6, 2) := by decide +kernel
theorem dX32_make_28 : decode cX32_make 28 = .ok (.if_icmp .ge 16, 3) := by decide +kernel
theorem dX32_make_31 : decode cX32_make 31 = .ok (.aload_n 0, 1) := by decide +kernel
theorem dX32_make_32 : decode cX32_make 32 = .ok (.getfield 46, 3) := by decide +kernel
theorem dX32_make_35 : decode cX32_make 35 = .ok (.iload_n 1, 1) := by decide +kernel
theorem dX32_make_36 : decode cX32_make 36 = .ok (.iconst (-1), 1) := by decide +kernel
theorem dX32_make_37 : decode cX32_make 37 = .ok (.iastore, 1) := by decide +kernel
theorem dX32_make_38 : decode cX32_make 38 = .ok (.iinc 1 1, 3) := by decide +kernel
theorem dX32_make_41 : decode cX32_make 41 = .ok (.goto (-16), 3) := by decide +kernel
theorem dX32_make_44 : decode cX32_make 44 = .ok (.aload_n 0, 1) := by decide +kernel
theorem dX32_make_45 : decode cX32_make 45 = .ok (.iconst 0, 1) := by decide +kernel
theorem dX32_make_46 : decode cX32_make 46 = .ok (.invokestatic 145, 3) := by decide +kernel
theorem dX32_make_49 : decode cX32_make 49 = .ok (.return_, 1) := by decide +kernel
abbrev cX32_choose : ByteArray := prog_72_method_14_code
def yX32_choose : MethodName := ⟨RX32, "choose", "(LKnowHouse$VirtualRewrite;I)V"⟩
theorem dX32_choose_0 : decode cX32_choose 0 = .ok (.iload_n 1, 1) := by decide +kernel
theorem dX32_choose_1 : decode cX32_choose 1 = .ok (.aload_n 0, 1) := by decide +kernel
theorem dX32_choose_2 : decode cX32_choose 2 = .ok (.getfield 130, 3) := by decide +kernel
theorem dX32_choose_5 : decode cX32_choose 5 = .ok (.if_icmp .ne 8, 3) := by decide +kernel
theorem dX32_choose_8 : decode cX32_choose 8 = .ok (.aload_n 0, 1) := by decide +kernel
theorem dX32_choose_9 : decode cX32_choose 9 = .ok (.invokevirtual 149, 3) := by decide +kernel
theorem dX32_choose_12 : decode cX32_choose 12 = .ok (.return_, 1) := by decide +kernel
theorem dX32_choose_13 : decode cX32_choose 13 = .ok (.iconst 0, 1) := by decide +kernel
theorem dX32_choose_14 : decode cX32_choose 14 = .ok (.istore_n 2, 1) := by decide +kernel
theorem dX32_choose_15 : decode cX32_choose 15 = .ok (.iload_n 2, 1) := by decide +kernel
theorem dX32_choose_16 : decode cX32_choose 16 = .ok (.aload_n 0, 1) := by decide +kernel
theorem dX32_choose_17 : decode cX32_choose 17 = .ok (.getfield 100, 3) := by decide +kernel
theorem dX32_choose_20 : decode cX32_choose 20 = .ok (.if_icmp .ge 110, 3) := by decide +kernel
theorem dX32_choose_23 : decode cX32_choose 23 = .ok (.aload_n 0, 1) := by decide +kernel
theorem dX32_choose_24 : decode cX32_choose 24 = .ok (.getfield 142, 3) := by decide +kernel
theorem dX32_choose_27 : decode cX32_choose 27 = .ok (.ifCond .ne 103, 3) := by decide +kernel
theorem dX32_choose_30 : decode cX32_choose 30 = .ok (.aload_n 0, 1) := by decide +kernel
theorem dX32_choose_31 : decode cX32_choose 31 = .ok (.getfield 23, 3) := by decide +kernel
theorem dX32_choose_34 : decode cX32_choose 34 = .ok (.iload_n 1, 1) := by decide +kernel
theorem dX32_choose_35 : decode cX32_choose 35 = .ok (.aaload, 1) := by decide +kernel
theorem dX32_choose_36 : decode cX32_choose 36 = .ok (.astore_n 3, 1) := by decide +kernel
theorem dX32_choose_37 : decode cX32_choose 37 = .ok (.aload_n 0, 1) := by decide +kernel
theorem dX32_choose_38 : decode cX32_choose 38 = .ok (.aload_n 3, 1) := by decide +kernel
theorem dX32_choose_39 : decode cX32_choose 39 = .ok (.getfield 152, 3) := by decide +kernel
theorem dX32_choose_42 : decode cX32_choose 42 = .ok (.iconst 0, 1) := by decide +kernel
theorem dX32_choose_43 : decode cX32_choose 43 = .ok (.iaload, 1) := by decide +kernel
theorem dX32_choose_44 : decode cX32_choose 44 = .ok (.invokevirtual 155, 3) := by decide +kernel
theorem dX32_choose_47 : decode cX32_choose 47 = .ok (.istore 4, 2) := by decide +kernel
theorem dX32_choose_49 : decode cX32_choose 49 = .ok (.aload_n 0, 1) := by decide +kernel
theorem dX32_choose_50 : decode cX32_choose 50 = .ok (.aload_n 3, 1) := by decide +kernel
theorem dX32_choose_51 : decode cX32_choose 51 = .ok (.getfield 152, 3) := by decide +kernel
theorem dX32_choose_54 : decode cX32_choose 54 = .ok (.iconst 1, 1) := by decide +kernel
theorem dX32_choose_55 : decode cX32_choose 55 = .ok (.iaload, 1) := by decide +kernel
theorem dX32_choose_56 : decode cX32_choose 56 = .ok (.invokevirtual 155, 3) := by decide +kernel
theorem dX32_choose_59 : decode cX32_choose 59 = .ok (.istore 5, 2) := by decide +kernel
theorem dX32_choose_61 : decode cX32_choose 61 = .ok (.aload_n 0, 1) := by decide +kernel
theorem dX32_choose_62 : decode cX32_choose 62 = .ok (.getfield 17, 3) := by decide +kernel
theorem dX32_choose_65 : decode cX32_choose 65 = .ok (.iload_n 2, 1) := by decide +kernel
theorem dX32_choose_66 : decode cX32_choose 66 = .ok (.aaload, 1) := by decide +kernel
theorem dX32_choose_67 : decode cX32_choose 67 = .ok (.getfield 116, 3) := by decide +kernel
theorem dX32_choose_70 : decode cX32_choose 70 = .ok (.aload_n 3, 1) := by decide +kernel
theorem dX32_choose_71 : decode cX32_choose 71 = .ok (.getfield 159, 3) := by decide +kernel
theorem dX32_choose_74 : decode cX32_choose 74 = .ok (.if_icmp .ne 26, 3) := by decide +kernel
theorem dX32_choose_77 : decode cX32_choose 77 = .ok (.aload_n 0, 1) := by decide +kernel
theorem dX32_choose_78 : decode cX32_choose 78 = .ok (.aload_n 3, 1) := by decide +kernel
theorem dX32_choose_79 : decode cX32_choose 79 = .ok (.iload_n 2, 1) := by decide +kernel
theorem dX32_choose_80 : decode cX32_choose 80 = .ok (.invokevirtual 160, 3) := by decide +kernel
theorem dX32_choose_83 : decode cX32_choose 83 = .ok (.ifCond .eq 17, 3) := by decide +kernel
theorem dX32_choose_86 : decode cX32_choose 86 = .ok (.aload_n 0, 1) := by decide +kernel
theorem dX32_choose_87 : decode cX32_choose 87 = .ok (.getfield 43, 3) := by decide +kernel
theorem dX32_choose_90 : decode cX32_choose 90 = .ok (.iload_n 1, 1) := by decide +kernel
theorem dX32_choose_91 : decode cX32_choose 91 = .ok (.iload_n 2, 1) := by decide +kernel
theorem dX32_choose_92 : decode cX32_choose 92 = .ok (.iastore, 1) := by decide +kernel
theorem dX32_choose_93 : decode cX32_choose 93 = .ok (.aload_n 0, 1) := by decide +kernel
theorem dX32_choose_94 : decode cX32_choose 94 = .ok (.iload_n 1, 1) := by decide +kernel
theorem dX32_choose_95 : decode cX32_choose 95 = .ok (.iconst 1, 1) := by decide +kernel
theorem dX32_choose_96 : decode cX32_choose 96 = .ok (.iadd, 1) := by decide +kernel
theorem dX32_choose_97 : decode cX32_choose 97 = .ok (.invokestatic 145, 3) := by decide +kernel
theorem dX32_choose_100 : decode cX32_choose 100 = .ok (.aload_n 0, 1) := by decide +kernel
theorem dX32_choose_101 : decode cX32_choose 101 = .ok (.aload_n 3, 1) := by decide +kernel
theorem dX32_choose_102 : decode cX32_choose 102 = .ok (.getfield 152, 3) := by decide +kernel
theorem dX32_choose_105 : decode cX32_choose 105 = .ok (.iconst 1, 1) := by decide +kernel
theorem dX32_choose_106 : decode cX32_choose 106 = .ok (.iaload, 1) := by decide +kernel
theorem dX32_choose_107 : decode cX32_choose 107 = .ok (.iload 5, 2) := by decide +kernel
theorem dX32_choose_109 : decode cX32_choose 109 = .ok (.invokevirtual 164, 3) := by decide +kernel
theorem dX32_choose_112 : decode cX32_choose 112 = .ok (.aload_n 0, 1) := by decide +kernel
theorem dX32_choose_113 : decode cX32_choose 113 = .ok (.aload_n 3, 1) := by decide +kernel
theorem dX32_choose_114 : decode cX32_choose 114 = .ok (.getfield 152, 3) := by decide +kernel
theorem dX32_choose_117 : decode cX32_choose 117 = .ok (.iconst 0, 1) := by decide +kernel
theorem dX32_choose_118 : decode cX32_choose 118 = .ok (.iaload, 1) := by decide +kernel
theorem dX32_choose_119 : decode cX32_choose 119 = .ok (.iload 4, 2) := by decide +kernel
theorem dX32_choose_121 : decode cX32_choose 121 = .ok (.invokevirtual 164, 3) := by decide +kernel
theorem dX32_choose_124 : decode cX32_choose 124 = .ok (.iinc 2 1, 3) := by decide +kernel
theorem dX32_choose_127 : decode cX32_choose 127 = .ok (.goto (-112), 3) := by decide +kernel
theorem dX32_choose_130 : decode cX32_choose 130 = .ok (.return_, 1) := by decide +kernel
abbrev cX32_keep : ByteArray := prog_72_method_18_code
def yX32_keep : MethodName := ⟨RX32, "keep", "()V"⟩
theorem dX32_keep_0 : decode cX32_keep 0 = .ok (.aload_n 0, 1) := by decide +kernel
theorem dX32_keep_1 : decode cX32_keep 1 = .ok (.getfield 139, 3) := by decide +kernel
theorem dX32_keep_4 : decode cX32_keep 4 = .ok (.sipush 150, 3) := by decide +kernel
theorem dX32_keep_7 : decode cX32_keep 7 = .ok (.if_icmp .ne 9, 3) := by decide +kernel
theorem dX32_keep_10 : decode cX32_keep 10 = .ok (.aload_n 0, 1) := by decide +kernel
theorem dX32_keep_11 : decode cX32_keep 11 = .ok (.iconst 1, 1) := by decide +kernel
theorem dX32_keep_12 : decode cX32_keep 12 = .ok (.putfield 142, 3) := by decide +kernel
theorem dX32_keep_15 : decode cX32_keep 15 = .ok (.return_, 1) := by decide +kernel
theorem dX32_keep_16 : decode cX32_keep 16 = .ok (.aload_n 0, 1) := by decide +kernel
theorem dX32_keep_17 : decode cX32_keep 17 = .ok (.getfield 39, 3) := by decide +kernel
theorem dX32_keep_20 : decode cX32_keep 20 = .ok (.aload_n 0, 1) := by decide +kernel
theorem dX32_keep_21 : decode cX32_keep 21 = .ok (.getfield 139, 3) := by decide +kernel
theorem dX32_keep_24 : decode cX32_keep 24 = .ok (.aaload, 1) := by decide +kernel
theorem dX32_keep_25 : decode cX32_keep 25 = .ok (.astore_n 1, 1) := by decide +kernel
theorem dX32_keep_26 : decode cX32_keep 26 = .ok (.aload_n 0, 1) := by decide +kernel
theorem dX32_keep_27 : decode cX32_keep 27 = .ok (.dup, 1) := by decide +kernel
theorem dX32_keep_28 : decode cX32_keep 28 = .ok (.getfield 139, 3) := by decide +kernel
theorem dX32_keep_31 : decode cX32_keep 31 = .ok (.iconst 1, 1) := by decide +kernel
theorem dX32_keep_32 : decode cX32_keep 32 = .ok (.iadd, 1) := by decide +kernel
theorem dX32_keep_33 : decode cX32_keep 33 = .ok (.putfield 139, 3) := by decide +kernel
theorem dX32_keep_36 : decode cX32_keep 36 = .ok (.aload_n 1, 1) := by decide +kernel
theorem dX32_keep_37 : decode cX32_keep 37 = .ok (.iconst 0, 1) := by decide +kernel
theorem dX32_keep_38 : decode cX32_keep 38 = .ok (.putfield 168, 3) := by decide +kernel
theorem dX32_keep_41 : decode cX32_keep 41 = .ok (.iconst 0, 1) := by decide +kernel
theorem dX32_keep_42 : decode cX32_keep 42 = .ok (.istore_n 2, 1) := by decide +kernel
theorem dX32_keep_43 : decode cX32_keep 43 = .ok (.iload_n 2, 1) := by decide +kernel
theorem dX32_keep_44 : decode cX32_keep 44 = .ok (.aload_n 0, 1) := by decide +kernel
theorem dX32_keep_45 : decode cX32_keep 45 = .ok (.getfield 130, 3) := by decide +kernel
theorem dX32_keep_48 : decode cX32_keep 48 = .ok (.if_icmp .ge 86, 3) := by decide +kernel
theorem dX32_keep_51 : decode cX32_keep 51 = .ok (.aload_n 1, 1) := by decide +kernel
theorem dX32_keep_52 : decode cX32_keep 52 = .ok (.getfield 171, 3) := by decide +kernel
theorem dX32_keep_55 : decode cX32_keep 55 = .ok (.iload_n 2, 1) := by decide +kernel
theorem dX32_keep_56 : decode cX32_keep 56 = .ok (.aload_n 0, 1) := by decide +kernel
theorem dX32_keep_57 : decode cX32_keep 57 = .ok (.getfield 43, 3) := by decide +kernel
theorem dX32_keep_60 : decode cX32_keep 60 = .ok (.iload_n 2, 1) := by decide +kernel
theorem dX32_keep_61 : decode cX32_keep 61 = .ok (.iaload, 1) := by decide +kernel
theorem dX32_keep_62 : decode cX32_keep 62 = .ok (.iastore, 1) := by decide +kernel
theorem dX32_keep_63 : decode cX32_keep 63 = .ok (.iconst 0, 1) := by decide +kernel
theorem dX32_keep_64 : decode cX32_keep 64 = .ok (.istore_n 3, 1) := by decide +kernel
theorem dX32_keep_65 : decode cX32_keep 65 = .ok (.iload_n 3, 1) := by decide +kernel
theorem dX32_keep_66 : decode cX32_keep 66 = .ok (.iload_n 2, 1) := by decide +kernel
theorem dX32_keep_67 : decode cX32_keep 67 = .ok (.if_icmp .ge 18, 3) := by decide +kernel
theorem dX32_keep_70 : decode cX32_keep 70 = .ok (.aload_n 0, 1) := by decide +kernel
theorem dX32_keep_71 : decode cX32_keep 71 = .ok (.iload_n 3, 1) := by decide +kernel
theorem dX32_keep_72 : decode cX32_keep 72 = .ok (.iload_n 2, 1) := by decide +kernel
theorem dX32_keep_73 : decode cX32_keep 73 = .ok (.invokevirtual 173, 3) := by decide +kernel
theorem dX32_keep_76 : decode cX32_keep 76 = .ok (.ifCond .ne 9, 3) := by decide +kernel
theorem dX32_keep_79 : decode cX32_keep 79 = .ok (.iinc 3 1, 3) := by decide +kernel
theorem dX32_keep_82 : decode cX32_keep 82 = .ok (.goto (-17), 3) := by decide +kernel
theorem dX32_keep_85 : decode cX32_keep 85 = .ok (.aload_n 1, 1) := by decide +kernel
theorem dX32_keep_86 : decode cX32_keep 86 = .ok (.getfield 176, 3) := by decide +kernel
theorem dX32_keep_89 : decode cX32_keep 89 = .ok (.iload_n 2, 1) := by decide +kernel
theorem dX32_keep_90 : decode cX32_keep 90 = .ok (.iload_n 3, 1) := by decide +kernel
theorem dX32_keep_91 : decode cX32_keep 91 = .ok (.iload_n 2, 1) := by decide +kernel
theorem dX32_keep_92 : decode cX32_keep 92 = .ok (.if_icmp .ge 12, 3) := by decide +kernel
theorem dX32_keep_95 : decode cX32_keep 95 = .ok (.aload_n 1, 1) := by decide +kernel
theorem dX32_keep_96 : decode cX32_keep 96 = .ok (.getfield 176, 3) := by decide +kernel
theorem dX32_keep_99 : decode cX32_keep 99 = .ok (.iload_n 3, 1) := by decide +kernel
theorem dX32_keep_100 : decode cX32_keep 100 = .ok (.iaload, 1) := by decide +kernel
theorem dX32_keep_101 : decode cX32_keep 101 = .ok (.goto 7, 3) := by decide +kernel
theorem dX32_keep_104 : decode cX32_keep 104 = .ok (.aload_n 1, 1) := by decide +kernel
theorem dX32_keep_105 : decode cX32_keep 105 = .ok (.getfield 168, 3) := by decide +kernel
theorem dX32_keep_108 : decode cX32_keep 108 = .ok (.iastore, 1) := by decide +kernel
theorem dX32_keep_109 : decode cX32_keep 109 = .ok (.aload_n 1, 1) := by decide +kernel
theorem dX32_keep_110 : decode cX32_keep 110 = .ok (.dup, 1) := by decide +kernel
theorem dX32_keep_111 : decode cX32_keep 111 = .ok (.getfield 168, 3) := by decide +kernel
theorem dX32_keep_114 : decode cX32_keep 114 = .ok (.iload_n 3, 1) := by decide +kernel
theorem dX32_keep_115 : decode cX32_keep 115 = .ok (.iload_n 2, 1) := by decide +kernel
theorem dX32_keep_116 : decode cX32_keep 116 = .ok (.if_icmp .ge 7, 3) := by decide +kernel
theorem dX32_keep_119 : decode cX32_keep 119 = .ok (.iconst 0, 1) := by decide +kernel
theorem dX32_keep_120 : decode cX32_keep 120 = .ok (.goto 4, 3) := by decide +kernel
theorem dX32_keep_123 : decode cX32_keep 123 = .ok (.iconst 1, 1) := by decide +kernel
theorem dX32_keep_124 : decode cX32_keep 124 = .ok (.iadd, 1) := by decide +kernel
theorem dX32_keep_125 : decode cX32_keep 125 = .ok (.putfield 168, 3) := by decide +kernel
theorem dX32_keep_128 : decode cX32_keep 128 = .ok (.iinc 2 1, 3) := by decide +kernel
theorem dX32_keep_131 : decode cX32_keep 131 = .ok (.goto (-88), 3) := by decide +kernel
theorem dX32_keep_134 : decode cX32_keep 134 = .ok (.return_, 1) := by decide +kernel
abbrev cX32_isOneRow : ByteArray := prog_72_method_19_code
def yX32_isOneRow : MethodName := ⟨RX32, "isOneRow", "(II)Z"⟩
theorem dX32_isOneRow_0 : decode cX32_isOneRow 0 = .ok (.aload_n 0, 1) := by decide +kernel
theorem dX32_isOneRow_1 : decode cX32_isOneRow 1 = .ok (.getfield 17, 3) := by decide +kernel
theorem dX32_isOneRow_4 : decode cX32_isOneRow 4 = .ok (.aload_n 0, 1) := by decide +kernel
theorem dX32_isOneRow_5 : decode cX32_isOneRow 5 = .ok (.getfield 43, 3) := by decide +kernel
theorem dX32_isOneRow_8 : decode cX32_isOneRow 8 = .ok (.iload_n 1, 1) := by decide +kernel
theorem dX32_isOneRow_9 : decode cX32_isOneRow 9 = .ok (.iaload, 1) := by decide +kernel
theorem dX32_isOneRow_10 : decode cX32_isOneRow 10 = .ok (.aaload, 1) := by decide +kernel
theorem dX32_isOneRow_11 : decode cX32_isOneRow 11 = .ok (.astore_n 3, 1) := by decide +kernel
theorem dX32_isOneRow_12 : decode cX32_isOneRow 12 = .ok (.aload_n 0, 1) := by decide +kernel
theorem dX32_isOneRow_13 : decode cX32_isOneRow 13 = .ok (.getfield 17, 3) := by decide +kernel
theorem dX32_isOneRow_16 : decode cX32_isOneRow 16 = .ok (.aload_n 0, 1) := by decide +kernel
theorem dX32_isOneRow_17 : decode cX32_isOneRow 17 = .ok (.getfield 43, 3) := by decide +kernel
theorem dX32_isOneRow_20 : decode cX32_isOneRow 20 = .ok (.iload_n 2, 1) := by decide +kernel
theorem dX32_isOneRow_21 : decode cX32_isOneRow 21 = .ok (.iaload, 1) := by decide +kernel
theorem dX32_isOneRow_22 : decode cX32_isOneRow 22 = .ok (.aaload, 1) := by decide +kernel
theorem dX32_isOneRow_23 : decode cX32_isOneRow 23 = .ok (.astore 4, 2) := by decide +kernel
theorem dX32_isOneRow_25 : decode cX32_isOneRow 25 = .ok (.iconst 0, 1) := by decide +kernel
theorem dX32_isOneRow_26 : decode cX32_isOneRow 26 = .ok (.istore 5, 2) := by decide +kernel
theorem dX32_isOneRow_28 : decode cX32_isOneRow 28 = .ok (.iconst 0, 1) := by decide +kernel
theorem dX32_isOneRow_29 : decode cX32_isOneRow 29 = .ok (.istore 6, 2) := by decide +kernel
theorem dX32_isOneRow_31 : decode cX32_isOneRow 31 = .ok (.iload 6, 2) := by decide +kernel
theorem dX32_isOneRow_33 : decode cX32_isOneRow 33 = .ok (.iconst 2, 1) := by decide +kernel
theorem dX32_isOneRow_34 : decode cX32_isOneRow 34 = .ok (.if_icmp .ge 111, 3) := by decide +kernel
theorem dX32_isOneRow_37 : decode cX32_isOneRow 37 = .ok (.iconst 0, 1) := by decide +kernel
theorem dX32_isOneRow_38 : decode cX32_isOneRow 38 = .ok (.istore 7, 2) := by decide +kernel
theorem dX32_isOneRow_40 : decode cX32_isOneRow 40 = .ok (.iload 7, 2) := by decide +kernel
theorem dX32_isOneRow_42 : decode cX32_isOneRow 42 = .ok (.iconst 2, 1) := by decide +kernel
theorem dX32_isOneRow_43 : decode cX32_isOneRow 43 = .ok (.if_icmp .ge 96, 3) := by decide +kernel
theorem dX32_isOneRow_46 : decode cX32_isOneRow 46 = .ok (.iload 5, 2) := by decide +kernel
theorem dX32_isOneRow_48 : decode cX32_isOneRow 48 = .ok (.ifCond .ne 78, 3) := by decide +kernel
theorem dX32_isOneRow_51 : decode cX32_isOneRow 51 = .ok (.aload_n 3, 1) := by decide +kernel
theorem dX32_isOneRow_52 : decode cX32_isOneRow 52 = .ok (.getfield 112, 3) := by decide +kernel
theorem dX32_isOneRow_55 : decode cX32_isOneRow 55 = .ok (.aload 4, 2) := by decide +kernel
theorem dX32_isOneRow_57 : decode cX32_isOneRow 57 = .ok (.getfield 112, 3) := by decide +kernel
theorem dX32_isOneRow_60 : decode cX32_isOneRow 60 = .ok (.if_acmp .ne 70, 3) := by decide +kernel
theorem dX32_isOneRow_63 : decode cX32_isOneRow 63 = .ok (.aload_n 3, 1) := by decide +kernel
theorem dX32_isOneRow_64 : decode cX32_isOneRow 64 = .ok (.getfield 109, 3) := by decide +kernel
theorem dX32_isOneRow_67 : decode cX32_isOneRow 67 = .ok (.iload 6, 2) := by decide +kernel
theorem dX32_isOneRow_69 : decode cX32_isOneRow 69 = .ok (.iaload, 1) := by decide +kernel
theorem dX32_isOneRow_70 : decode cX32_isOneRow 70 = .ok (.aload 4, 2) := by decide +kernel
theorem dX32_isOneRow_72 : decode cX32_isOneRow 72 = .ok (.getfield 109, 3) := by decide +kernel
theorem dX32_isOneRow_75 : decode cX32_isOneRow 75 = .ok (.iload 7, 2) := by decide +kernel
theorem dX32_isOneRow_77 : decode cX32_isOneRow 77 = .ok (.iaload, 1) := by decide +kernel
theorem dX32_isOneRow_78 : decode cX32_isOneRow 78 = .ok (.if_icmp .ne 52, 3) := by decide +kernel
theorem dX32_isOneRow_81 : decode cX32_isOneRow 81 = .ok (.aload_n 3, 1) := by decide +kernel
theorem dX32_isOneRow_82 : decode cX32_isOneRow 82 = .ok (.getfield 112, 3) := by decide +kernel
theorem dX32_isOneRow_85 : decode cX32_isOneRow 85 = .ok (.getfield 73, 3) := by decide +kernel
theorem dX32_isOneRow_88 : decode cX32_isOneRow 88 = .ok (.aload_n 3, 1) := by decide +kernel
theorem dX32_isOneRow_89 : decode cX32_isOneRow 89 = .ok (.getfield 109, 3) := by decide +kernel
theorem dX32_isOneRow_92 : decode cX32_isOneRow 92 = .ok (.iload 6, 2) := by decide +kernel
theorem dX32_isOneRow_94 : decode cX32_isOneRow 94 = .ok (.iaload, 1) := by decide +kernel
theorem dX32_isOneRow_95 : decode cX32_isOneRow 95 = .ok (.baload, 1) := by decide +kernel
theorem dX32_isOneRow_96 : decode cX32_isOneRow 96 = .ok (.ifCond .eq 34, 3) := by decide +kernel
theorem dX32_isOneRow_99 : decode cX32_isOneRow 99 = .ok (.aload_n 0, 1) := by decide +kernel
theorem dX32_isOneRow_100 : decode cX32_isOneRow 100 = .ok (.getfield 23, 3) := by decide +kernel
theorem dX32_isOneRow_103 : decode cX32_isOneRow 103 = .ok (.iload_n 1, 1) := by decide +kernel
theorem dX32_isOneRow_104 : decode cX32_isOneRow 104 = .ok (.aaload, 1) := by decide +kernel
theorem dX32_isOneRow_105 : decode cX32_isOneRow 105 = .ok (.getfield 152, 3) := by decide +kernel
theorem dX32_isOneRow_108 : decode cX32_isOneRow 108 = .ok (.iload 6, 2) := by decide +kernel
theorem dX32_isOneRow_110 : decode cX32_isOneRow 110 = .ok (.iaload, 1) := by decide +kernel
theorem dX32_isOneRow_111 : decode cX32_isOneRow 111 = .ok (.aload_n 0, 1) := by decide +kernel
theorem dX32_isOneRow_112 : decode cX32_isOneRow 112 = .ok (.getfield 23, 3) := by decide +kernel
theorem dX32_isOneRow_115 : decode cX32_isOneRow 115 = .ok (.iload_n 2, 1) := by decide +kernel
theorem dX32_isOneRow_116 : decode cX32_isOneRow 116 = .ok (.aaload, 1) := by decide +kernel
theorem dX32_isOneRow_117 : decode cX32_isOneRow 117 = .ok (.getfield 152, 3) := by decide +kernel
theorem dX32_isOneRow_120 : decode cX32_isOneRow 120 = .ok (.iload 7, 2) := by decide +kernel
theorem dX32_isOneRow_122 : decode cX32_isOneRow 122 = .ok (.iaload, 1) := by decide +kernel
theorem dX32_isOneRow_123 : decode cX32_isOneRow 123 = .ok (.if_icmp .ne 7, 3) := by decide +kernel
theorem dX32_isOneRow_126 : decode cX32_isOneRow 126 = .ok (.iconst 1, 1) := by decide +kernel
theorem dX32_isOneRow_127 : decode cX32_isOneRow 127 = .ok (.goto 4, 3) := by decide +kernel
theorem dX32_isOneRow_130 : decode cX32_isOneRow 130 = .ok (.iconst 0, 1) := by decide +kernel
theorem dX32_isOneRow_131 : decode cX32_isOneRow 131 = .ok (.istore 5, 2) := by decide +kernel
theorem dX32_isOneRow_133 : decode cX32_isOneRow 133 = .ok (.iinc 7 1, 3) := by decide +kernel
theorem dX32_isOneRow_136 : decode cX32_isOneRow 136 = .ok (.goto (-96), 3) := by decide +kernel
theorem dX32_isOneRow_139 : decode cX32_isOneRow 139 = .ok (.iinc 6 1, 3) := by decide +kernel
theorem dX32_isOneRow_142 : decode cX32_isOneRow 142 = .ok (.goto (-111), 3) := by decide +kernel
theorem dX32_isOneRow_145 : decode cX32_isOneRow 145 = .ok (.iload 5, 2) := by decide +kernel
theorem dX32_isOneRow_147 : decode cX32_isOneRow 147 = .ok (.ireturn, 1) := by decide +kernel
abbrev cX32_kindAt : ByteArray := prog_72_method_15_code
def yX32_kindAt : MethodName := ⟨RX32, "kindAt", "(I)I"⟩
theorem dX32_kindAt_0 : decode cX32_kindAt 0 = .ok (.iload_n 1, 1) := by decide +kernel
theorem dX32_kindAt_1 : decode cX32_kindAt 1 = .ok (.ifCond .ge 14, 3) := by decide +kernel
theorem dX32_kindAt_4 : decode cX32_kindAt 4 = .ok (.aload_n 0, 1) := by decide +kernel
theorem dX32_kindAt_5 : decode cX32_kindAt 5 = .ok (.getfield 46, 3) := by decide +kernel
theorem dX32_kindAt_8 : decode cX32_kindAt 8 = .ok (.iconst (-1), 1) := by decide +kernel
theorem dX32_kindAt_9 : decode cX32_kindAt 9 = .ok (.iload_n 1, 1) := by decide +kernel
theorem dX32_kindAt_10 : decode cX32_kindAt 10 = .ok (.isub, 1) := by decide +kernel
theorem dX32_kindAt_11 : decode cX32_kindAt 11 = .ok (.iaload, 1) := by decide +kernel
theorem dX32_kindAt_12 : decode cX32_kindAt 12 = .ok (.goto 4, 3) := by decide +kernel
theorem dX32_kindAt_15 : decode cX32_kindAt 15 = .ok (.iconst (-1), 1) := by decide +kernel
theorem dX32_kindAt_16 : decode cX32_kindAt 16 = .ok (.ireturn, 1) := by decide +kernel
abbrev cX32_fits : ByteArray := prog_72_method_17_code
def yX32_fits : MethodName := ⟨RX32, "fits", "(LKnowHouse$VirtualRewrite$Atom;I)Z"⟩
theorem dX32_fits_0 : decode cX32_fits 0 = .ok (.iconst 1, 1) := by decide +kernel
theorem dX32_fits_1 : decode cX32_fits 1 = .ok (.istore_n 3, 1) := by decide +kernel
theorem dX32_fits_2 : decode cX32_fits 2 = .ok (.iconst 0, 1) := by decide +kernel
theorem dX32_fits_3 : decode cX32_fits 3 = .ok (.istore 4, 2) := by decide +kernel
theorem dX32_fits_5 : decode cX32_fits 5 = .ok (.iload 4, 2) := by decide +kernel
theorem dX32_fits_7 : decode cX32_fits 7 = .ok (.iconst 2, 1) := by decide +kernel
theorem dX32_fits_8 : decode cX32_fits 8 = .ok (.if_icmp .ge 89, 3) := by decide +kernel
theorem dX32_fits_11 : decode cX32_fits 11 = .ok (.aload_n 0, 1) := by decide +kernel
theorem dX32_fits_12 : decode cX32_fits 12 = .ok (.getfield 17, 3) := by decide +kernel
theorem dX32_fits_15 : decode cX32_fits 15 = .ok (.iload_n 2, 1) := by decide +kernel
theorem dX32_fits_16 : decode cX32_fits 16 = .ok (.aaload, 1) := by decide +kernel
theorem dX32_fits_17 : decode cX32_fits 17 = .ok (.getfield 106, 3) := by decide +kernel
theorem dX32_fits_20 : decode cX32_fits 20 = .ok (.iload 4, 2) := by decide +kernel
theorem dX32_fits_22 : decode cX32_fits 22 = .ok (.iaload, 1) := by decide +kernel
theorem dX32_fits_23 : decode cX32_fits 23 = .ok (.istore 5, 2) := by decide +kernel
theorem dX32_fits_25 : decode cX32_fits 25 = .ok (.aload_n 1, 1) := by decide +kernel
theorem dX32_fits_26 : decode cX32_fits 26 = .ok (.getfield 152, 3) := by decide +kernel
theorem dX32_fits_29 : decode cX32_fits 29 = .ok (.iload 4, 2) := by decide +kernel
theorem dX32_fits_31 : decode cX32_fits 31 = .ok (.iaload, 1) := by decide +kernel
theorem dX32_fits_32 : decode cX32_fits 32 = .ok (.istore 6, 2) := by decide +kernel
theorem dX32_fits_34 : decode cX32_fits 34 = .ok (.iload 6, 2) := by decide +kernel
theorem dX32_fits_36 : decode cX32_fits 36 = .ok (.ifCond .ge 12, 3) := by decide +kernel
theorem dX32_fits_39 : decode cX32_fits 39 = .ok (.aload_n 0, 1) := by decide +kernel
theorem dX32_fits_40 : decode cX32_fits 40 = .ok (.iload 6, 2) := by decide +kernel
theorem dX32_fits_42 : decode cX32_fits 42 = .ok (.invokevirtual 155, 3) := by decide +kernel
theorem dX32_fits_45 : decode cX32_fits 45 = .ok (.goto 9, 3) := by decide +kernel
theorem dX32_fits_48 : decode cX32_fits 48 = .ok (.iload 6, 2) := by decide +kernel
theorem dX32_fits_50 : decode cX32_fits 50 = .ok (.sipush 10000, 3) := by decide +kernel
theorem dX32_fits_53 : decode cX32_fits 53 = .ok (.idiv, 1) := by decide +kernel
theorem dX32_fits_54 : decode cX32_fits 54 = .ok (.istore 7, 2) := by decide +kernel
theorem dX32_fits_56 : decode cX32_fits 56 = .ok (.iload_n 3, 1) := by decide +kernel
theorem dX32_fits_57 : decode cX32_fits 57 = .ok (.ifCond .eq 20, 3) := by decide +kernel
theorem dX32_fits_60 : decode cX32_fits 60 = .ok (.iload 7, 2) := by decide +kernel
theorem dX32_fits_62 : decode cX32_fits 62 = .ok (.iconst (-1), 1) := by decide +kernel
theorem dX32_fits_63 : decode cX32_fits 63 = .ok (.if_icmp .eq 10, 3) := by decide +kernel
theorem dX32_fits_66 : decode cX32_fits 66 = .ok (.iload 7, 2) := by decide +kernel
theorem dX32_fits_68 : decode cX32_fits 68 = .ok (.iload 5, 2) := by decide +kernel
theorem dX32_fits_70 : decode cX32_fits 70 = .ok (.if_icmp .ne 7, 3) := by decide +kernel
theorem dX32_fits_73 : decode cX32_fits 73 = .ok (.iconst 1, 1) := by decide +kernel
theorem dX32_fits_74 : decode cX32_fits 74 = .ok (.goto 4, 3) := by decide +kernel
theorem dX32_fits_77 : decode cX32_fits 77 = .ok (.iconst 0, 1) := by decide +kernel
theorem dX32_fits_78 : decode cX32_fits 78 = .ok (.istore_n 3, 1) := by decide +kernel
theorem dX32_fits_79 : decode cX32_fits 79 = .ok (.iload_n 3, 1) := by decide +kernel
theorem dX32_fits_80 : decode cX32_fits 80 = .ok (.ifCond .eq 11, 3) := by decide +kernel
theorem dX32_fits_83 : decode cX32_fits 83 = .ok (.aload_n 0, 1) := by decide +kernel
theorem dX32_fits_84 : decode cX32_fits 84 = .ok (.iload 6, 2) := by decide +kernel
theorem dX32_fits_86 : decode cX32_fits 86 = .ok (.iload 5, 2) := by decide +kernel
theorem dX32_fits_88 : decode cX32_fits 88 = .ok (.invokevirtual 164, 3) := by decide +kernel
theorem dX32_fits_91 : decode cX32_fits 91 = .ok (.iinc 4 1, 3) := by decide +kernel
theorem dX32_fits_94 : decode cX32_fits 94 = .ok (.goto (-89), 3) := by decide +kernel
theorem dX32_fits_97 : decode cX32_fits 97 = .ok (.iload_n 3, 1) := by decide +kernel
theorem dX32_fits_98 : decode cX32_fits 98 = .ok (.ireturn, 1) := by decide +kernel
abbrev cX32_setKind : ByteArray := prog_72_method_16_code
def yX32_setKind : MethodName := ⟨RX32, "setKind", "(II)V"⟩
theorem dX32_setKind_0 : decode cX32_setKind 0 = .ok (.iload_n 1, 1) := by decide +kernel
theorem dX32_setKind_1 : decode cX32_setKind 1 = .ok (.ifCond .ge 12, 3) := by decide +kernel
theorem dX32_setKind_4 : decode cX32_setKind 4 = .ok (.aload_n 0, 1) := by decide +kernel
theorem dX32_setKind_5 : decode cX32_setKind 5 = .ok (.getfield 46, 3) := by decide +kernel
theorem dX32_setKind_8 : decode cX32_setKind 8 = .ok (.iconst (-1), 1) := by decide +kernel
theorem dX32_setKind_9 : decode cX32_setKind 9 = .ok (.iload_n 1, 1) := by decide +kernel
theorem dX32_setKind_10 : decode cX32_setKind 10 = .ok (.isub, 1) := by decide +kernel
theorem dX32_setKind_11 : decode cX32_setKind 11 = .ok (.iload_n 2, 1) := by decide +kernel
theorem dX32_setKind_12 : decode cX32_setKind 12 = .ok (.iastore, 1) := by decide +kernel
theorem dX32_setKind_13 : decode cX32_setKind 13 = .ok (.return_, 1) := by decide +kernel
abbrev cX32_give : ByteArray := prog_72_method_26_code
def yX32_give : MethodName := ⟨RX32, "give", "(LKnowHouse$VirtualRewrite;II)V"⟩
theorem dX32_give_0 : decode cX32_give 0 = .ok (.iload_n 2, 1) := by decide +kernel
theorem dX32_give_1 : decode cX32_give 1 = .ok (.aload_n 0, 1) := by decide +kernel
theorem dX32_give_2 : decode cX32_give 2 = .ok (.getfield 130, 3) := by decide +kernel
theorem dX32_give_5 : decode cX32_give 5 = .ok (.if_icmp .ne 9, 3) := by decide +kernel
theorem dX32_give_8 : decode cX32_give 8 = .ok (.aload_n 0, 1) := by decide +kernel
theorem dX32_give_9 : decode cX32_give 9 = .ok (.iload_n 1, 1) := by decide +kernel
theorem dX32_give_10 : decode cX32_give 10 = .ok (.invokevirtual 203, 3) := by decide +kernel
theorem dX32_give_13 : decode cX32_give 13 = .ok (.return_, 1) := by decide +kernel
theorem dX32_give_14 : decode cX32_give 14 = .ok (.aload_n 0, 1) := by decide +kernel
theorem dX32_give_15 : decode cX32_give 15 = .ok (.getfield 39, 3) := by decide +kernel
theorem dX32_give_18 : decode cX32_give 18 = .ok (.iload_n 1, 1) := by decide +kernel
theorem dX32_give_19 : decode cX32_give 19 = .ok (.aaload, 1) := by decide +kernel
theorem dX32_give_20 : decode cX32_give 20 = .ok (.astore_n 3, 1) := by decide +kernel
theorem dX32_give_21 : decode cX32_give 21 = .ok (.aload_n 0, 1) := by decide +kernel
theorem dX32_give_22 : decode cX32_give 22 = .ok (.getfield 17, 3) := by decide +kernel
theorem dX32_give_25 : decode cX32_give 25 = .ok (.aload_n 3, 1) := by decide +kernel
theorem dX32_give_26 : decode cX32_give 26 = .ok (.getfield 171, 3) := by decide +kernel
theorem dX32_give_29 : decode cX32_give 29 = .ok (.iload_n 2, 1) := by decide +kernel
theorem dX32_give_30 : decode cX32_give 30 = .ok (.iaload, 1) := by decide +kernel
theorem dX32_give_31 : decode cX32_give 31 = .ok (.aaload, 1) := by decide +kernel
theorem dX32_give_32 : decode cX32_give 32 = .ok (.astore 4, 2) := by decide +kernel
theorem dX32_give_34 : decode cX32_give 34 = .ok (.aload_n 3, 1) := by decide +kernel
theorem dX32_give_35 : decode cX32_give 35 = .ok (.iload_n 2, 1) := by decide +kernel
theorem dX32_give_36 : decode cX32_give 36 = .ok (.invokestatic 186, 3) := by decide +kernel
theorem dX32_give_39 : decode cX32_give 39 = .ok (.istore 5, 2) := by decide +kernel
theorem dX32_give_41 : decode cX32_give 41 = .ok (.iload 5, 2) := by decide +kernel
theorem dX32_give_43 : decode cX32_give 43 = .ok (.ifCond .eq 7, 3) := by decide +kernel
theorem dX32_give_46 : decode cX32_give 46 = .ok (.iconst 0, 1) := by decide +kernel
theorem dX32_give_47 : decode cX32_give 47 = .ok (.goto 14, 3) := by decide +kernel
theorem dX32_give_50 : decode cX32_give 50 = .ok (.aload_n 0, 1) := by decide +kernel
theorem dX32_give_51 : decode cX32_give 51 = .ok (.getfield 52, 3) := by decide +kernel
theorem dX32_give_54 : decode cX32_give 54 = .ok (.aload_n 3, 1) := by decide +kernel
theorem dX32_give_55 : decode cX32_give 55 = .ok (.getfield 176, 3) := by decide +kernel
theorem dX32_give_58 : decode cX32_give 58 = .ok (.iload_n 2, 1) := by decide +kernel
theorem dX32_give_59 : decode cX32_give 59 = .ok (.iaload, 1) := by decide +kernel
theorem dX32_give_60 : decode cX32_give 60 = .ok (.iaload, 1) := by decide +kernel
theorem dX32_give_61 : decode cX32_give 61 = .ok (.istore 6, 2) := by decide +kernel
theorem dX32_give_63 : decode cX32_give 63 = .ok (.iload 5, 2) := by decide +kernel
theorem dX32_give_65 : decode cX32_give 65 = .ok (.ifCond .eq 14, 3) := by decide +kernel
theorem dX32_give_68 : decode cX32_give 68 = .ok (.aload 4, 2) := by decide +kernel
theorem dX32_give_70 : decode cX32_give 70 = .ok (.getfield 112, 3) := by decide +kernel
theorem dX32_give_73 : decode cX32_give 73 = .ok (.getfield 85, 3) := by decide +kernel
theorem dX32_give_76 : decode cX32_give 76 = .ok (.goto 7, 3) := by decide +kernel
theorem dX32_give_79 : decode cX32_give 79 = .ok (.iload 6, 2) := by decide +kernel
theorem dX32_give_81 : decode cX32_give 81 = .ok (.iconst 1, 1) := by decide +kernel
theorem dX32_give_82 : decode cX32_give 82 = .ok (.iadd, 1) := by decide +kernel
theorem dX32_give_83 : decode cX32_give 83 = .ok (.istore 7, 2) := by decide +kernel
theorem dX32_give_85 : decode cX32_give 85 = .ok (.iload 6, 2) := by decide +kernel
theorem dX32_give_87 : decode cX32_give 87 = .ok (.istore 8, 2) := by decide +kernel
theorem dX32_give_89 : decode cX32_give 89 = .ok (.iload 8, 2) := by decide +kernel
theorem dX32_give_91 : decode cX32_give 91 = .ok (.iload 7, 2) := by decide +kernel
theorem dX32_give_93 : decode cX32_give 93 = .ok (.if_icmp .ge 126, 3) := by decide +kernel
theorem dX32_give_96 : decode cX32_give 96 = .ok (.aload_n 0, 1) := by decide +kernel
theorem dX32_give_97 : decode cX32_give 97 = .ok (.getfield 196, 3) := by decide +kernel
theorem dX32_give_100 : decode cX32_give 100 = .ok (.ifCond .ne 119, 3) := by decide +kernel
theorem dX32_give_103 : decode cX32_give 103 = .ok (.aload_n 0, 1) := by decide +kernel
theorem dX32_give_104 : decode cX32_give 104 = .ok (.getfield 23, 3) := by decide +kernel
theorem dX32_give_107 : decode cX32_give 107 = .ok (.iload_n 2, 1) := by decide +kernel
theorem dX32_give_108 : decode cX32_give 108 = .ok (.aaload, 1) := by decide +kernel
theorem dX32_give_109 : decode cX32_give 109 = .ok (.getfield 152, 3) := by decide +kernel
theorem dX32_give_112 : decode cX32_give 112 = .ok (.astore 9, 2) := by decide +kernel
theorem dX32_give_114 : decode cX32_give 114 = .ok (.aload_n 0, 1) := by decide +kernel
theorem dX32_give_115 : decode cX32_give 115 = .ok (.aload 9, 2) := by decide +kernel
theorem dX32_give_117 : decode cX32_give 117 = .ok (.iconst 0, 1) := by decide +kernel
theorem dX32_give_118 : decode cX32_give 118 = .ok (.iaload, 1) := by decide +kernel
theorem dX32_give_119 : decode cX32_give 119 = .ok (.invokevirtual 206, 3) := by decide +kernel
theorem dX32_give_122 : decode cX32_give 122 = .ok (.istore 10, 2) := by decide +kernel
theorem dX32_give_124 : decode cX32_give 124 = .ok (.aload_n 0, 1) := by decide +kernel
theorem dX32_give_125 : decode cX32_give 125 = .ok (.aload 9, 2) := by decide +kernel
theorem dX32_give_127 : decode cX32_give 127 = .ok (.iconst 1, 1) := by decide +kernel
theorem dX32_give_128 : decode cX32_give 128 = .ok (.iaload, 1) := by decide +kernel
theorem dX32_give_129 : decode cX32_give 129 = .ok (.invokevirtual 206, 3) := by decide +kernel
theorem dX32_give_132 : decode cX32_give 132 = .ok (.istore 11, 2) := by decide +kernel
theorem dX32_give_134 : decode cX32_give 134 = .ok (.aload_n 0, 1) := by decide +kernel
theorem dX32_give_135 : decode cX32_give 135 = .ok (.getfield 52, 3) := by decide +kernel
theorem dX32_give_138 : decode cX32_give 138 = .ok (.aload_n 3, 1) := by decide +kernel
theorem dX32_give_139 : decode cX32_give 139 = .ok (.getfield 176, 3) := by decide +kernel
theorem dX32_give_142 : decode cX32_give 142 = .ok (.iload_n 2, 1) := by decide +kernel
theorem dX32_give_143 : decode cX32_give 143 = .ok (.iaload, 1) := by decide +kernel
theorem dX32_give_144 : decode cX32_give 144 = .ok (.iload 8, 2) := by decide +kernel
theorem dX32_give_146 : decode cX32_give 146 = .ok (.iastore, 1) := by decide +kernel
theorem dX32_give_147 : decode cX32_give 147 = .ok (.aload_n 0, 1) := by decide +kernel
theorem dX32_give_148 : decode cX32_give 148 = .ok (.aload 9, 2) := by decide +kernel
theorem dX32_give_150 : decode cX32_give 150 = .ok (.iconst 0, 1) := by decide +kernel
theorem dX32_give_151 : decode cX32_give 151 = .ok (.iaload, 1) := by decide +kernel
theorem dX32_give_152 : decode cX32_give 152 = .ok (.aload 4, 2) := by decide +kernel
theorem dX32_give_154 : decode cX32_give 154 = .ok (.iload 8, 2) := by decide +kernel
theorem dX32_give_156 : decode cX32_give 156 = .ok (.iconst 0, 1) := by decide +kernel
theorem dX32_give_157 : decode cX32_give 157 = .ok (.invokevirtual 119, 3) := by decide +kernel
theorem dX32_give_160 : decode cX32_give 160 = .ok (.invokevirtual 209, 3) := by decide +kernel
theorem dX32_give_163 : decode cX32_give 163 = .ok (.ifCond .eq 30, 3) := by decide +kernel
theorem dX32_give_166 : decode cX32_give 166 = .ok (.aload_n 0, 1) := by decide +kernel
theorem dX32_give_167 : decode cX32_give 167 = .ok (.aload 9, 2) := by decide +kernel
theorem dX32_give_169 : decode cX32_give 169 = .ok (.iconst 1, 1) := by decide +kernel
theorem dX32_give_170 : decode cX32_give 170 = .ok (.iaload, 1) := by decide +kernel
theorem dX32_give_171 : decode cX32_give 171 = .ok (.aload 4, 2) := by decide +kernel
theorem dX32_give_173 : decode cX32_give 173 = .ok (.iload 8, 2) := by decide +kernel
theorem dX32_give_175 : decode cX32_give 175 = .ok (.iconst 1, 1) := by decide +kernel
theorem dX32_give_176 : decode cX32_give 176 = .ok (.invokevirtual 119, 3) := by decide +kernel
theorem dX32_give_179 : decode cX32_give 179 = .ok (.invokevirtual 209, 3) := by decide +kernel
theorem dX32_give_182 : decode cX32_give 182 = .ok (.ifCond .eq 11, 3) := by decide +kernel
theorem dX32_give_185 : decode cX32_give 185 = .ok (.aload_n 0, 1) := by decide +kernel
theorem dX32_give_186 : decode cX32_give 186 = .ok (.iload_n 1, 1) := by decide +kernel
theorem dX32_give_187 : decode cX32_give 187 = .ok (.iload_n 2, 1) := by decide +kernel
theorem dX32_give_188 : decode cX32_give 188 = .ok (.iconst 1, 1) := by decide +kernel
theorem dX32_give_189 : decode cX32_give 189 = .ok (.iadd, 1) := by decide +kernel
theorem dX32_give_190 : decode cX32_give 190 = .ok (.invokestatic 199, 3) := by decide +kernel
theorem dX32_give_193 : decode cX32_give 193 = .ok (.aload_n 0, 1) := by decide +kernel
theorem dX32_give_194 : decode cX32_give 194 = .ok (.aload 9, 2) := by decide +kernel
theorem dX32_give_196 : decode cX32_give 196 = .ok (.iconst 1, 1) := by decide +kernel
theorem dX32_give_197 : decode cX32_give 197 = .ok (.iaload, 1) := by decide +kernel
theorem dX32_give_198 : decode cX32_give 198 = .ok (.iload 11, 2) := by decide +kernel
theorem dX32_give_200 : decode cX32_give 200 = .ok (.invokevirtual 212, 3) := by decide +kernel
theorem dX32_give_203 : decode cX32_give 203 = .ok (.aload_n 0, 1) := by decide +kernel
theorem dX32_give_204 : decode cX32_give 204 = .ok (.aload 9, 2) := by decide +kernel
theorem dX32_give_206 : decode cX32_give 206 = .ok (.iconst 0, 1) := by decide +kernel
theorem dX32_give_207 : decode cX32_give 207 = .ok (.iaload, 1) := by decide +kernel
theorem dX32_give_208 : decode cX32_give 208 = .ok (.iload 10, 2) := by decide +kernel
theorem dX32_give_210 : decode cX32_give 210 = .ok (.invokevirtual 212, 3) := by decide +kernel
theorem dX32_give_213 : decode cX32_give 213 = .ok (.iinc 8 1, 3) := by decide +kernel
theorem dX32_give_216 : decode cX32_give 216 = .ok (.goto (-127), 3) := by decide +kernel
theorem dX32_give_219 : decode cX32_give 219 = .ok (.return_, 1) := by decide +kernel
abbrev cX32_note : ByteArray := prog_72_method_31_code
def yX32_note : MethodName := ⟨RX32, "note", "(I)V"⟩
theorem dX32_note_0 : decode cX32_note 0 = .ok (.iconst 0, 1) := by decide +kernel
theorem dX32_note_1 : decode cX32_note 1 = .ok (.istore_n 2, 1) := by decide +kernel
theorem dX32_note_2 : decode cX32_note 2 = .ok (.iload_n 2, 1) := by decide +kernel
theorem dX32_note_3 : decode cX32_note 3 = .ok (.aload_n 0, 1) := by decide +kernel
theorem dX32_note_4 : decode cX32_note 4 = .ok (.getfield 190, 3) := by decide +kernel
theorem dX32_note_7 : decode cX32_note 7 = .ok (.if_icmp .ge 17, 3) := by decide +kernel
theorem dX32_note_10 : decode cX32_note 10 = .ok (.aload_n 0, 1) := by decide +kernel
theorem dX32_note_11 : decode cX32_note 11 = .ok (.iload_n 2, 1) := by decide +kernel
theorem dX32_note_12 : decode cX32_note 12 = .ok (.invokevirtual 220, 3) := by decide +kernel
theorem dX32_note_15 : decode cX32_note 15 = .ok (.ifCond .le 9, 3) := by decide +kernel
theorem dX32_note_18 : decode cX32_note 18 = .ok (.iinc 2 1, 3) := by decide +kernel
theorem dX32_note_21 : decode cX32_note 21 = .ok (.goto (-19), 3) := by decide +kernel
theorem dX32_note_24 : decode cX32_note 24 = .ok (.iload_n 2, 1) := by decide +kernel
theorem dX32_note_25 : decode cX32_note 25 = .ok (.aload_n 0, 1) := by decide +kernel
theorem dX32_note_26 : decode cX32_note 26 = .ok (.getfield 190, 3) := by decide +kernel
theorem dX32_note_29 : decode cX32_note 29 = .ok (.if_icmp .eq 11, 3) := by decide +kernel
theorem dX32_note_32 : decode cX32_note 32 = .ok (.aload_n 0, 1) := by decide +kernel
theorem dX32_note_33 : decode cX32_note 33 = .ok (.iload_n 2, 1) := by decide +kernel
theorem dX32_note_34 : decode cX32_note 34 = .ok (.invokevirtual 220, 3) := by decide +kernel
theorem dX32_note_37 : decode cX32_note 37 = .ok (.ifCond .eq 31, 3) := by decide +kernel
theorem dX32_note_40 : decode cX32_note 40 = .ok (.aload_n 0, 1) := by decide +kernel
theorem dX32_note_41 : decode cX32_note 41 = .ok (.getfield 190, 3) := by decide +kernel
theorem dX32_note_44 : decode cX32_note 44 = .ok (.sipush 300, 3) := by decide +kernel
theorem dX32_note_47 : decode cX32_note 47 = .ok (.if_icmp .ne 9, 3) := by decide +kernel
theorem dX32_note_50 : decode cX32_note 50 = .ok (.aload_n 0, 1) := by decide +kernel
theorem dX32_note_51 : decode cX32_note 51 = .ok (.iconst 1, 1) := by decide +kernel
theorem dX32_note_52 : decode cX32_note 52 = .ok (.putfield 196, 3) := by decide +kernel
theorem dX32_note_55 : decode cX32_note 55 = .ok (.return_, 1) := by decide +kernel
theorem dX32_note_56 : decode cX32_note 56 = .ok (.aload_n 0, 1) := by decide +kernel
theorem dX32_note_57 : decode cX32_note 57 = .ok (.iload_n 2, 1) := by decide +kernel
theorem dX32_note_58 : decode cX32_note 58 = .ok (.invokevirtual 222, 3) := by decide +kernel
theorem dX32_note_61 : decode cX32_note 61 = .ok (.aload_n 0, 1) := by decide +kernel
theorem dX32_note_62 : decode cX32_note 62 = .ok (.getfield 61, 3) := by decide +kernel
theorem dX32_note_65 : decode cX32_note 65 = .ok (.iload_n 2, 1) := by decide +kernel
theorem dX32_note_66 : decode cX32_note 66 = .ok (.iload_n 1, 1) := by decide +kernel
theorem dX32_note_67 : decode cX32_note 67 = .ok (.iastore, 1) := by decide +kernel
theorem dX32_note_68 : decode cX32_note 68 = .ok (.aload_n 0, 1) := by decide +kernel
theorem dX32_note_69 : decode cX32_note 69 = .ok (.getfield 58, 3) := by decide +kernel
theorem dX32_note_72 : decode cX32_note 72 = .ok (.iload_n 2, 1) := by decide +kernel
theorem dX32_note_73 : decode cX32_note 73 = .ok (.dup2, 1) := by decide +kernel
theorem dX32_note_74 : decode cX32_note 74 = .ok (.iaload, 1) := by decide +kernel
theorem dX32_note_75 : decode cX32_note 75 = .ok (.aload_n 0, 1) := by decide +kernel
theorem dX32_note_76 : decode cX32_note 76 = .ok (.getfield 64, 3) := by decide +kernel
theorem dX32_note_79 : decode cX32_note 79 = .ok (.iload_n 2, 1) := by decide +kernel
theorem dX32_note_80 : decode cX32_note 80 = .ok (.iaload, 1) := by decide +kernel
theorem dX32_note_81 : decode cX32_note 81 = .ok (.iload_n 1, 1) := by decide +kernel
theorem dX32_note_82 : decode cX32_note 82 = .ok (.if_icmp .ne 7, 3) := by decide +kernel
theorem dX32_note_85 : decode cX32_note 85 = .ok (.iconst 0, 1) := by decide +kernel
theorem dX32_note_86 : decode cX32_note 86 = .ok (.goto 4, 3) := by decide +kernel
theorem dX32_note_89 : decode cX32_note 89 = .ok (.iconst 1, 1) := by decide +kernel
theorem dX32_note_90 : decode cX32_note 90 = .ok (.iadd, 1) := by decide +kernel
theorem dX32_note_91 : decode cX32_note 91 = .ok (.iastore, 1) := by decide +kernel
theorem dX32_note_92 : decode cX32_note 92 = .ok (.aload_n 0, 1) := by decide +kernel
theorem dX32_note_93 : decode cX32_note 93 = .ok (.getfield 64, 3) := by decide +kernel
theorem dX32_note_96 : decode cX32_note 96 = .ok (.iload_n 2, 1) := by decide +kernel
theorem dX32_note_97 : decode cX32_note 97 = .ok (.iload_n 1, 1) := by decide +kernel
theorem dX32_note_98 : decode cX32_note 98 = .ok (.iastore, 1) := by decide +kernel
theorem dX32_note_99 : decode cX32_note 99 = .ok (.return_, 1) := by decide +kernel
abbrev cX32_compare : ByteArray := prog_72_method_30_code
def yX32_compare : MethodName := ⟨RX32, "compare", "(I)I"⟩
theorem dX32_compare_0 : decode cX32_compare 0 = .ok (.iconst 0, 1) := by decide +kernel
theorem dX32_compare_1 : decode cX32_compare 1 = .ok (.istore_n 2, 1) := by decide +kernel
theorem dX32_compare_2 : decode cX32_compare 2 = .ok (.iconst 0, 1) := by decide +kernel
theorem dX32_compare_3 : decode cX32_compare 3 = .ok (.istore_n 3, 1) := by decide +kernel
theorem dX32_compare_4 : decode cX32_compare 4 = .ok (.iload_n 3, 1) := by decide +kernel
theorem dX32_compare_5 : decode cX32_compare 5 = .ok (.bipush 6, 2) := by decide +kernel
theorem dX32_compare_7 : decode cX32_compare 7 = .ok (.if_icmp .ge 49, 3) := by decide +kernel
theorem dX32_compare_10 : decode cX32_compare 10 = .ok (.iload_n 2, 1) := by decide +kernel
theorem dX32_compare_11 : decode cX32_compare 11 = .ok (.ifCond .ne 45, 3) := by decide +kernel
theorem dX32_compare_14 : decode cX32_compare 14 = .ok (.aload_n 0, 1) := by decide +kernel
theorem dX32_compare_15 : decode cX32_compare 15 = .ok (.getfield 193, 3) := by decide +kernel
theorem dX32_compare_18 : decode cX32_compare 18 = .ok (.iload_n 3, 1) := by decide +kernel
theorem dX32_compare_19 : decode cX32_compare 19 = .ok (.ishr, 1) := by decide +kernel
theorem dX32_compare_20 : decode cX32_compare 20 = .ok (.iconst 1, 1) := by decide +kernel
theorem dX32_compare_21 : decode cX32_compare 21 = .ok (.iand, 1) := by decide +kernel
theorem dX32_compare_22 : decode cX32_compare 22 = .ok (.ifCond .ne 7, 3) := by decide +kernel
theorem dX32_compare_25 : decode cX32_compare 25 = .ok (.iconst 0, 1) := by decide +kernel
theorem dX32_compare_26 : decode cX32_compare 26 = .ok (.goto 23, 3) := by decide +kernel
theorem dX32_compare_29 : decode cX32_compare 29 = .ok (.aload_n 0, 1) := by decide +kernel
theorem dX32_compare_30 : decode cX32_compare 30 = .ok (.getfield 49, 3) := by decide +kernel
theorem dX32_compare_33 : decode cX32_compare 33 = .ok (.iload_n 3, 1) := by decide +kernel
theorem dX32_compare_34 : decode cX32_compare 34 = .ok (.iaload, 1) := by decide +kernel
theorem dX32_compare_35 : decode cX32_compare 35 = .ok (.aload_n 0, 1) := by decide +kernel
theorem dX32_compare_36 : decode cX32_compare 36 = .ok (.getfield 55, 3) := by decide +kernel
theorem dX32_compare_39 : decode cX32_compare 39 = .ok (.bipush 6, 2) := by decide +kernel
theorem dX32_compare_41 : decode cX32_compare 41 = .ok (.iload_n 1, 1) := by decide +kernel
theorem dX32_compare_42 : decode cX32_compare 42 = .ok (.imul, 1) := by decide +kernel
theorem dX32_compare_43 : decode cX32_compare 43 = .ok (.iload_n 3, 1) := by decide +kernel
theorem dX32_compare_44 : decode cX32_compare 44 = .ok (.iadd, 1) := by decide +kernel
theorem dX32_compare_45 : decode cX32_compare 45 = .ok (.iaload, 1) := by decide +kernel
theorem dX32_compare_46 : decode cX32_compare 46 = .ok (.invokestatic 215, 3) := by decide +kernel
theorem dX32_compare_49 : decode cX32_compare 49 = .ok (.istore_n 2, 1) := by decide +kernel
theorem dX32_compare_50 : decode cX32_compare 50 = .ok (.iinc 3 1, 3) := by decide +kernel
theorem dX32_compare_53 : decode cX32_compare 53 = .ok (.goto (-49), 3) := by decide +kernel
theorem dX32_compare_56 : decode cX32_compare 56 = .ok (.iload_n 2, 1) := by decide +kernel
theorem dX32_compare_57 : decode cX32_compare 57 = .ok (.ireturn, 1) := by decide +kernel
abbrev cX32_open : ByteArray := prog_72_method_32_code
def yX32_open : MethodName := ⟨RX32, "open", "(I)V"⟩
theorem dX32_open_0 : decode cX32_open 0 = .ok (.aload_n 0, 1) := by decide +kernel
theorem dX32_open_1 : decode cX32_open 1 = .ok (.getfield 190, 3) := by decide +kernel
theorem dX32_open_4 : decode cX32_open 4 = .ok (.istore_n 2, 1) := by decide +kernel
theorem dX32_open_5 : decode cX32_open 5 = .ok (.iload_n 2, 1) := by decide +kernel
theorem dX32_open_6 : decode cX32_open 6 = .ok (.iload_n 1, 1) := by decide +kernel
theorem dX32_open_7 : decode cX32_open 7 = .ok (.if_icmp .le 89, 3) := by decide +kernel
theorem dX32_open_10 : decode cX32_open 10 = .ok (.iconst 0, 1) := by decide +kernel
theorem dX32_open_11 : decode cX32_open 11 = .ok (.istore_n 3, 1) := by decide +kernel
theorem dX32_open_12 : decode cX32_open 12 = .ok (.iload_n 3, 1) := by decide +kernel
theorem dX32_open_13 : decode cX32_open 13 = .ok (.bipush 6, 2) := by decide +kernel
theorem dX32_open_15 : decode cX32_open 15 = .ok (.if_icmp .ge 33, 3) := by decide +kernel
theorem dX32_open_18 : decode cX32_open 18 = .ok (.aload_n 0, 1) := by decide +kernel
theorem dX32_open_19 : decode cX32_open 19 = .ok (.getfield 55, 3) := by decide +kernel
theorem dX32_open_22 : decode cX32_open 22 = .ok (.bipush 6, 2) := by decide +kernel
theorem dX32_open_24 : decode cX32_open 24 = .ok (.iload_n 2, 1) := by decide +kernel
theorem dX32_open_25 : decode cX32_open 25 = .ok (.imul, 1) := by decide +kernel
theorem dX32_open_26 : decode cX32_open 26 = .ok (.iload_n 3, 1) := by decide +kernel
theorem dX32_open_27 : decode cX32_open 27 = .ok (.iadd, 1) := by decide +kernel
theorem dX32_open_28 : decode cX32_open 28 = .ok (.aload_n 0, 1) := by decide +kernel
theorem dX32_open_29 : decode cX32_open 29 = .ok (.getfield 55, 3) := by decide +kernel
theorem dX32_open_32 : decode cX32_open 32 = .ok (.bipush 6, 2) := by decide +kernel
theorem dX32_open_34 : decode cX32_open 34 = .ok (.iload_n 2, 1) := by decide +kernel
theorem dX32_open_35 : decode cX32_open 35 = .ok (.iconst 1, 1) := by decide +kernel
theorem dX32_open_36 : decode cX32_open 36 = .ok (.isub, 1) := by decide +kernel
theorem dX32_open_37 : decode cX32_open 37 = .ok (.imul, 1) := by decide +kernel
theorem dX32_open_38 : decode cX32_open 38 = .ok (.iload_n 3, 1) := by decide +kernel
theorem dX32_open_39 : decode cX32_open 39 = .ok (.iadd, 1) := by decide +kernel
theorem dX32_open_40 : decode cX32_open 40 = .ok (.iaload, 1) := by decide +kernel
theorem dX32_open_41 : decode cX32_open 41 = .ok (.iastore, 1) := by decide +kernel
theorem dX32_open_42 : decode cX32_open 42 = .ok (.iinc 3 1, 3) := by decide +kernel
theorem dX32_open_45 : decode cX32_open 45 = .ok (.goto (-33), 3) := by decide +kernel
theorem dX32_open_48 : decode cX32_open 48 = .ok (.aload_n 0, 1) := by decide +kernel
theorem dX32_open_49 : decode cX32_open 49 = .ok (.getfield 58, 3) := by decide +kernel
theorem dX32_open_52 : decode cX32_open 52 = .ok (.iload_n 2, 1) := by decide +kernel
theorem dX32_open_53 : decode cX32_open 53 = .ok (.aload_n 0, 1) := by decide +kernel
theorem dX32_open_54 : decode cX32_open 54 = .ok (.getfield 58, 3) := by decide +kernel
theorem dX32_open_57 : decode cX32_open 57 = .ok (.iload_n 2, 1) := by decide +kernel
theorem dX32_open_58 : decode cX32_open 58 = .ok (.iconst 1, 1) := by decide +kernel
theorem dX32_open_59 : decode cX32_open 59 = .ok (.isub, 1) := by decide +kernel
theorem dX32_open_60 : decode cX32_open 60 = .ok (.iaload, 1) := by decide +kernel
theorem dX32_open_61 : decode cX32_open 61 = .ok (.iastore, 1) := by decide +kernel
theorem dX32_open_62 : decode cX32_open 62 = .ok (.aload_n 0, 1) := by decide +kernel
theorem dX32_open_63 : decode cX32_open 63 = .ok (.getfield 61, 3) := by decide +kernel
theorem dX32_open_66 : decode cX32_open 66 = .ok (.iload_n 2, 1) := by decide +kernel
theorem dX32_open_67 : decode cX32_open 67 = .ok (.aload_n 0, 1) := by decide +kernel
theorem dX32_open_68 : decode cX32_open 68 = .ok (.getfield 61, 3) := by decide +kernel
theorem dX32_open_71 : decode cX32_open 71 = .ok (.iload_n 2, 1) := by decide +kernel
theorem dX32_open_72 : decode cX32_open 72 = .ok (.iconst 1, 1) := by decide +kernel
theorem dX32_open_73 : decode cX32_open 73 = .ok (.isub, 1) := by decide +kernel
theorem dX32_open_74 : decode cX32_open 74 = .ok (.iaload, 1) := by decide +kernel
theorem dX32_open_75 : decode cX32_open 75 = .ok (.iastore, 1) := by decide +kernel
theorem dX32_open_76 : decode cX32_open 76 = .ok (.aload_n 0, 1) := by decide +kernel
theorem dX32_open_77 : decode cX32_open 77 = .ok (.getfield 64, 3) := by decide +kernel
theorem dX32_open_80 : decode cX32_open 80 = .ok (.iload_n 2, 1) := by decide +kernel
theorem dX32_open_81 : decode cX32_open 81 = .ok (.aload_n 0, 1) := by decide +kernel
theorem dX32_open_82 : decode cX32_open 82 = .ok (.getfield 64, 3) := by decide +kernel
theorem dX32_open_85 : decode cX32_open 85 = .ok (.iload_n 2, 1) := by decide +kernel
theorem dX32_open_86 : decode cX32_open 86 = .ok (.iconst 1, 1) := by decide +kernel
theorem dX32_open_87 : decode cX32_open 87 = .ok (.isub, 1) := by decide +kernel
theorem dX32_open_88 : decode cX32_open 88 = .ok (.iaload, 1) := by decide +kernel
theorem dX32_open_89 : decode cX32_open 89 = .ok (.iastore, 1) := by decide +kernel
theorem dX32_open_90 : decode cX32_open 90 = .ok (.iinc 2 (-1), 3) := by decide +kernel
theorem dX32_open_93 : decode cX32_open 93 = .ok (.goto (-88), 3) := by decide +kernel
theorem dX32_open_96 : decode cX32_open 96 = .ok (.iconst 0, 1) := by decide +kernel
theorem dX32_open_97 : decode cX32_open 97 = .ok (.istore_n 2, 1) := by decide +kernel
theorem dX32_open_98 : decode cX32_open 98 = .ok (.iload_n 2, 1) := by decide +kernel
theorem dX32_open_99 : decode cX32_open 99 = .ok (.bipush 6, 2) := by decide +kernel
theorem dX32_open_101 : decode cX32_open 101 = .ok (.if_icmp .ge 26, 3) := by decide +kernel
theorem dX32_open_104 : decode cX32_open 104 = .ok (.aload_n 0, 1) := by decide +kernel
theorem dX32_open_105 : decode cX32_open 105 = .ok (.getfield 55, 3) := by decide +kernel
theorem dX32_open_108 : decode cX32_open 108 = .ok (.bipush 6, 2) := by decide +kernel
theorem dX32_open_110 : decode cX32_open 110 = .ok (.iload_n 1, 1) := by decide +kernel
theorem dX32_open_111 : decode cX32_open 111 = .ok (.imul, 1) := by decide +kernel
theorem dX32_open_112 : decode cX32_open 112 = .ok (.iload_n 2, 1) := by decide +kernel
theorem dX32_open_113 : decode cX32_open 113 = .ok (.iadd, 1) := by decide +kernel
theorem dX32_open_114 : decode cX32_open 114 = .ok (.aload_n 0, 1) := by decide +kernel
theorem dX32_open_115 : decode cX32_open 115 = .ok (.getfield 49, 3) := by decide +kernel
theorem dX32_open_118 : decode cX32_open 118 = .ok (.iload_n 2, 1) := by decide +kernel
theorem dX32_open_119 : decode cX32_open 119 = .ok (.iaload, 1) := by decide +kernel
theorem dX32_open_120 : decode cX32_open 120 = .ok (.iastore, 1) := by decide +kernel
theorem dX32_open_121 : decode cX32_open 121 = .ok (.iinc 2 1, 3) := by decide +kernel
theorem dX32_open_124 : decode cX32_open 124 = .ok (.goto (-26), 3) := by decide +kernel
theorem dX32_open_127 : decode cX32_open 127 = .ok (.aload_n 0, 1) := by decide +kernel
theorem dX32_open_128 : decode cX32_open 128 = .ok (.getfield 58, 3) := by decide +kernel
theorem dX32_open_131 : decode cX32_open 131 = .ok (.iload_n 1, 1) := by decide +kernel
theorem dX32_open_132 : decode cX32_open 132 = .ok (.iconst 0, 1) := by decide +kernel
theorem dX32_open_133 : decode cX32_open 133 = .ok (.iastore, 1) := by decide +kernel
theorem dX32_open_134 : decode cX32_open 134 = .ok (.aload_n 0, 1) := by decide +kernel
theorem dX32_open_135 : decode cX32_open 135 = .ok (.getfield 64, 3) := by decide +kernel
theorem dX32_open_138 : decode cX32_open 138 = .ok (.iload_n 1, 1) := by decide +kernel
theorem dX32_open_139 : decode cX32_open 139 = .ok (.iconst (-1), 1) := by decide +kernel
theorem dX32_open_140 : decode cX32_open 140 = .ok (.iastore, 1) := by decide +kernel
theorem dX32_open_141 : decode cX32_open 141 = .ok (.aload_n 0, 1) := by decide +kernel
theorem dX32_open_142 : decode cX32_open 142 = .ok (.dup, 1) := by decide +kernel
theorem dX32_open_143 : decode cX32_open 143 = .ok (.getfield 190, 3) := by decide +kernel
theorem dX32_open_146 : decode cX32_open 146 = .ok (.iconst 1, 1) := by decide +kernel
theorem dX32_open_147 : decode cX32_open 147 = .ok (.iadd, 1) := by decide +kernel
theorem dX32_open_148 : decode cX32_open 148 = .ok (.putfield 190, 3) := by decide +kernel
theorem dX32_open_151 : decode cX32_open 151 = .ok (.return_, 1) := by decide +kernel
abbrev cX32_isFirstOfSlot : ByteArray := prog_72_method_24_code
def yX32_isFirstOfSlot : MethodName := ⟨RX32, "isFirstOfSlot", "(LKnowHouse$VirtualRewrite$Union;I)Z"⟩
theorem dX32_isFirstOfSlot_0 : decode cX32_isFirstOfSlot 0 = .ok (.iconst 1, 1) := by decide +kernel
theorem dX32_isFirstOfSlot_1 : decode cX32_isFirstOfSlot 1 = .ok (.istore_n 2, 1) := by decide +kernel
theorem dX32_isFirstOfSlot_2 : decode cX32_isFirstOfSlot 2 = .ok (.iconst 0, 1) := by decide +kernel
theorem dX32_isFirstOfSlot_3 : decode cX32_isFirstOfSlot 3 = .ok (.istore_n 3, 1) := by decide +kernel
theorem dX32_isFirstOfSlot_4 : decode cX32_isFirstOfSlot 4 = .ok (.iload_n 3, 1) := by decide +kernel
theorem dX32_isFirstOfSlot_5 : decode cX32_isFirstOfSlot 5 = .ok (.iload_n 1, 1) := by decide +kernel
theorem dX32_isFirstOfSlot_6 : decode cX32_isFirstOfSlot 6 = .ok (.if_icmp .ge 34, 3) := by decide +kernel
theorem dX32_isFirstOfSlot_9 : decode cX32_isFirstOfSlot 9 = .ok (.iload_n 2, 1) := by decide +kernel
theorem dX32_isFirstOfSlot_10 : decode cX32_isFirstOfSlot 10 = .ok (.ifCond .eq 22, 3) := by decide +kernel
theorem dX32_isFirstOfSlot_13 : decode cX32_isFirstOfSlot 13 = .ok (.aload_n 0, 1) := by decide +kernel
theorem dX32_isFirstOfSlot_14 : decode cX32_isFirstOfSlot 14 = .ok (.getfield 176, 3) := by decide +kernel
theorem dX32_isFirstOfSlot_17 : decode cX32_isFirstOfSlot 17 = .ok (.iload_n 3, 1) := by decide +kernel
theorem dX32_isFirstOfSlot_18 : decode cX32_isFirstOfSlot 18 = .ok (.iaload, 1) := by decide +kernel
theorem dX32_isFirstOfSlot_19 : decode cX32_isFirstOfSlot 19 = .ok (.aload_n 0, 1) := by decide +kernel
theorem dX32_isFirstOfSlot_20 : decode cX32_isFirstOfSlot 20 = .ok (.getfield 176, 3) := by decide +kernel
theorem dX32_isFirstOfSlot_23 : decode cX32_isFirstOfSlot 23 = .ok (.iload_n 1, 1) := by decide +kernel
theorem dX32_isFirstOfSlot_24 : decode cX32_isFirstOfSlot 24 = .ok (.iaload, 1) := by decide +kernel
theorem dX32_isFirstOfSlot_25 : decode cX32_isFirstOfSlot 25 = .ok (.if_icmp .eq 7, 3) := by decide +kernel
theorem dX32_isFirstOfSlot_28 : decode cX32_isFirstOfSlot 28 = .ok (.iconst 1, 1) := by decide +kernel
theorem dX32_isFirstOfSlot_29 : decode cX32_isFirstOfSlot 29 = .ok (.goto 4, 3) := by decide +kernel
theorem dX32_isFirstOfSlot_32 : decode cX32_isFirstOfSlot 32 = .ok (.iconst 0, 1) := by decide +kernel
theorem dX32_isFirstOfSlot_33 : decode cX32_isFirstOfSlot 33 = .ok (.istore_n 2, 1) := by decide +kernel
theorem dX32_isFirstOfSlot_34 : decode cX32_isFirstOfSlot 34 = .ok (.iinc 3 1, 3) := by decide +kernel
theorem dX32_isFirstOfSlot_37 : decode cX32_isFirstOfSlot 37 = .ok (.goto (-33), 3) := by decide +kernel
theorem dX32_isFirstOfSlot_40 : decode cX32_isFirstOfSlot 40 = .ok (.iload_n 2, 1) := by decide +kernel
theorem dX32_isFirstOfSlot_41 : decode cX32_isFirstOfSlot 41 = .ok (.ireturn, 1) := by decide +kernel
abbrev cX32_givenAt : ByteArray := prog_72_method_27_code
def yX32_givenAt : MethodName := ⟨RX32, "givenAt", "(I)I"⟩
theorem dX32_givenAt_0 : decode cX32_givenAt 0 = .ok (.iload_n 1, 1) := by decide +kernel
theorem dX32_givenAt_1 : decode cX32_givenAt 1 = .ok (.ifCond .ge 14, 3) := by decide +kernel
theorem dX32_givenAt_4 : decode cX32_givenAt 4 = .ok (.aload_n 0, 1) := by decide +kernel
theorem dX32_givenAt_5 : decode cX32_givenAt 5 = .ok (.getfield 49, 3) := by decide +kernel
theorem dX32_givenAt_8 : decode cX32_givenAt 8 = .ok (.iconst (-1), 1) := by decide +kernel
theorem dX32_givenAt_9 : decode cX32_givenAt 9 = .ok (.iload_n 1, 1) := by decide +kernel
theorem dX32_givenAt_10 : decode cX32_givenAt 10 = .ok (.isub, 1) := by decide +kernel
theorem dX32_givenAt_11 : decode cX32_givenAt 11 = .ok (.iaload, 1) := by decide +kernel
theorem dX32_givenAt_12 : decode cX32_givenAt 12 = .ok (.goto 4, 3) := by decide +kernel
theorem dX32_givenAt_15 : decode cX32_givenAt 15 = .ok (.iconst (-1), 1) := by decide +kernel
theorem dX32_givenAt_16 : decode cX32_givenAt 16 = .ok (.ireturn, 1) := by decide +kernel
abbrev cX32_takes : ByteArray := prog_72_method_29_code
def yX32_takes : MethodName := ⟨RX32, "takes", "(II)Z"⟩
theorem dX32_takes_0 : decode cX32_takes 0 = .ok (.iload_n 1, 1) := by decide +kernel
theorem dX32_takes_1 : decode cX32_takes 1 = .ok (.ifCond .lt 14, 3) := by decide +kernel
theorem dX32_takes_4 : decode cX32_takes 4 = .ok (.iload_n 1, 1) := by decide +kernel
theorem dX32_takes_5 : decode cX32_takes 5 = .ok (.iload_n 2, 1) := by decide +kernel
theorem dX32_takes_6 : decode cX32_takes 6 = .ok (.if_icmp .ne 7, 3) := by decide +kernel
theorem dX32_takes_9 : decode cX32_takes 9 = .ok (.iconst 1, 1) := by decide +kernel
theorem dX32_takes_10 : decode cX32_takes 10 = .ok (.goto 4, 3) := by decide +kernel
theorem dX32_takes_13 : decode cX32_takes 13 = .ok (.iconst 0, 1) := by decide +kernel
theorem dX32_takes_14 : decode cX32_takes 14 = .ok (.ireturn, 1) := by decide +kernel
theorem dX32_takes_15 : decode cX32_takes 15 = .ok (.iconst (-1), 1) := by decide +kernel
theorem dX32_takes_16 : decode cX32_takes 16 = .ok (.iload_n 1, 1) := by decide +kernel
theorem dX32_takes_17 : decode cX32_takes 17 = .ok (.isub, 1) := by decide +kernel
theorem dX32_takes_18 : decode cX32_takes 18 = .ok (.istore_n 3, 1) := by decide +kernel
theorem dX32_takes_19 : decode cX32_takes 19 = .ok (.aload_n 0, 1) := by decide +kernel
theorem dX32_takes_20 : decode cX32_takes 20 = .ok (.getfield 49, 3) := by decide +kernel
theorem dX32_takes_23 : decode cX32_takes 23 = .ok (.iload_n 3, 1) := by decide +kernel
theorem dX32_takes_24 : decode cX32_takes 24 = .ok (.iaload, 1) := by decide +kernel
theorem dX32_takes_25 : decode cX32_takes 25 = .ok (.iconst (-1), 1) := by decide +kernel
theorem dX32_takes_26 : decode cX32_takes 26 = .ok (.if_icmp .eq 19, 3) := by decide +kernel
theorem dX32_takes_29 : decode cX32_takes 29 = .ok (.aload_n 0, 1) := by decide +kernel
theorem dX32_takes_30 : decode cX32_takes 30 = .ok (.getfield 49, 3) := by decide +kernel
theorem dX32_takes_33 : decode cX32_takes 33 = .ok (.iload_n 3, 1) := by decide +kernel
theorem dX32_takes_34 : decode cX32_takes 34 = .ok (.iaload, 1) := by decide +kernel
theorem dX32_takes_35 : decode cX32_takes 35 = .ok (.iload_n 2, 1) := by decide +kernel
theorem dX32_takes_36 : decode cX32_takes 36 = .ok (.if_icmp .ne 7, 3) := by decide +kernel
theorem dX32_takes_39 : decode cX32_takes 39 = .ok (.iconst 1, 1) := by decide +kernel
theorem dX32_takes_40 : decode cX32_takes 40 = .ok (.goto 4, 3) := by decide +kernel
theorem dX32_takes_43 : decode cX32_takes 43 = .ok (.iconst 0, 1) := by decide +kernel
theorem dX32_takes_44 : decode cX32_takes 44 = .ok (.ireturn, 1) := by decide +kernel
theorem dX32_takes_45 : decode cX32_takes 45 = .ok (.iconst 1, 1) := by decide +kernel
theorem dX32_takes_46 : decode cX32_takes 46 = .ok (.istore 4, 2) := by decide +kernel
theorem dX32_takes_48 : decode cX32_takes 48 = .ok (.iconst 0, 1) := by decide +kernel
theorem dX32_takes_49 : decode cX32_takes 49 = .ok (.istore 5, 2) := by decide +kernel
theorem dX32_takes_51 : decode cX32_takes 51 = .ok (.iload 5, 2) := by decide +kernel
theorem dX32_takes_53 : decode cX32_takes 53 = .ok (.aload_n 0, 1) := by decide +kernel
theorem dX32_takes_54 : decode cX32_takes 54 = .ok (.getfield 136, 3) := by decide +kernel
theorem dX32_takes_57 : decode cX32_takes 57 = .ok (.if_icmp .ge 62, 3) := by decide +kernel
theorem dX32_takes_60 : decode cX32_takes 60 = .ok (.iload 4, 2) := by decide +kernel
theorem dX32_takes_62 : decode cX32_takes 62 = .ok (.ifCond .eq 48, 3) := by decide +kernel
theorem dX32_takes_65 : decode cX32_takes 65 = .ok (.aload_n 0, 1) := by decide +kernel
theorem dX32_takes_66 : decode cX32_takes 66 = .ok (.getfield 27, 3) := by decide +kernel
theorem dX32_takes_69 : decode cX32_takes 69 = .ok (.iload 5, 2) := by decide +kernel
theorem dX32_takes_71 : decode cX32_takes 71 = .ok (.iaload, 1) := by decide +kernel
theorem dX32_takes_72 : decode cX32_takes 72 = .ok (.iload_n 3, 1) := by decide +kernel
theorem dX32_takes_73 : decode cX32_takes 73 = .ok (.if_icmp .ne 33, 3) := by decide +kernel
theorem dX32_takes_76 : decode cX32_takes 76 = .ok (.iload_n 2, 1) := by decide +kernel
theorem dX32_takes_77 : decode cX32_takes 77 = .ok (.sipush 10000, 3) := by decide +kernel
theorem dX32_takes_80 : decode cX32_takes 80 = .ok (.irem, 1) := by decide +kernel
theorem dX32_takes_81 : decode cX32_takes 81 = .ok (.aload_n 0, 1) := by decide +kernel
theorem dX32_takes_82 : decode cX32_takes 82 = .ok (.getfield 31, 3) := by decide +kernel
theorem dX32_takes_85 : decode cX32_takes 85 = .ok (.iload 5, 2) := by decide +kernel
theorem dX32_takes_87 : decode cX32_takes 87 = .ok (.iaload, 1) := by decide +kernel
theorem dX32_takes_88 : decode cX32_takes 88 = .ok (.if_icmp .lt 22, 3) := by decide +kernel
theorem dX32_takes_91 : decode cX32_takes 91 = .ok (.iload_n 2, 1) := by decide +kernel
theorem dX32_takes_92 : decode cX32_takes 92 = .ok (.sipush 10000, 3) := by decide +kernel
theorem dX32_takes_95 : decode cX32_takes 95 = .ok (.irem, 1) := by decide +kernel
theorem dX32_takes_96 : decode cX32_takes 96 = .ok (.aload_n 0, 1) := by decide +kernel
theorem dX32_takes_97 : decode cX32_takes 97 = .ok (.getfield 34, 3) := by decide +kernel
theorem dX32_takes_100 : decode cX32_takes 100 = .ok (.iload 5, 2) := by decide +kernel
theorem dX32_takes_102 : decode cX32_takes 102 = .ok (.iaload, 1) := by decide +kernel
theorem dX32_takes_103 : decode cX32_takes 103 = .ok (.if_icmp .gt 7, 3) := by decide +kernel
theorem dX32_takes_106 : decode cX32_takes 106 = .ok (.iconst 1, 1) := by decide +kernel
theorem dX32_takes_107 : decode cX32_takes 107 = .ok (.goto 4, 3) := by decide +kernel
theorem dX32_takes_110 : decode cX32_takes 110 = .ok (.iconst 0, 1) := by decide +kernel
theorem dX32_takes_111 : decode cX32_takes 111 = .ok (.istore 4, 2) := by decide +kernel
theorem dX32_takes_113 : decode cX32_takes 113 = .ok (.iinc 5 1, 3) := by decide +kernel
theorem dX32_takes_116 : decode cX32_takes 116 = .ok (.goto (-65), 3) := by decide +kernel
theorem dX32_takes_119 : decode cX32_takes 119 = .ok (.iload 4, 2) := by decide +kernel
theorem dX32_takes_121 : decode cX32_takes 121 = .ok (.ifCond .eq 10, 3) := by decide +kernel
theorem dX32_takes_124 : decode cX32_takes 124 = .ok (.aload_n 0, 1) := by decide +kernel
theorem dX32_takes_125 : decode cX32_takes 125 = .ok (.getfield 49, 3) := by decide +kernel
theorem dX32_takes_128 : decode cX32_takes 128 = .ok (.iload_n 3, 1) := by decide +kernel
theorem dX32_takes_129 : decode cX32_takes 129 = .ok (.iload_n 2, 1) := by decide +kernel
theorem dX32_takes_130 : decode cX32_takes 130 = .ok (.iastore, 1) := by decide +kernel
theorem dX32_takes_131 : decode cX32_takes 131 = .ok (.iload 4, 2) := by decide +kernel
theorem dX32_takes_133 : decode cX32_takes 133 = .ok (.ireturn, 1) := by decide +kernel
abbrev cX32_setGiven : ByteArray := prog_72_method_28_code
def yX32_setGiven : MethodName := ⟨RX32, "setGiven", "(II)V"⟩
theorem dX32_setGiven_0 : decode cX32_setGiven 0 = .ok (.iload_n 1, 1) := by decide +kernel
theorem dX32_setGiven_1 : decode cX32_setGiven 1 = .ok (.ifCond .ge 12, 3) := by decide +kernel
theorem dX32_setGiven_4 : decode cX32_setGiven 4 = .ok (.aload_n 0, 1) := by decide +kernel
theorem dX32_setGiven_5 : decode cX32_setGiven 5 = .ok (.getfield 49, 3) := by decide +kernel
theorem dX32_setGiven_8 : decode cX32_setGiven 8 = .ok (.iconst (-1), 1) := by decide +kernel
theorem dX32_setGiven_9 : decode cX32_setGiven 9 = .ok (.iload_n 1, 1) := by decide +kernel
theorem dX32_setGiven_10 : decode cX32_setGiven 10 = .ok (.isub, 1) := by decide +kernel
theorem dX32_setGiven_11 : decode cX32_setGiven 11 = .ok (.iload_n 2, 1) := by decide +kernel
theorem dX32_setGiven_12 : decode cX32_setGiven 12 = .ok (.iastore, 1) := by decide +kernel
theorem dX32_setGiven_13 : decode cX32_setGiven 13 = .ok (.return_, 1) := by decide +kernel
abbrev cX32_value : ByteArray := prog_72_method_33_code
def yX32_value : MethodName := ⟨RX32, "value", "(II)I"⟩
theorem dX32_value_0 : decode cX32_value 0 = .ok (.iload_n 1, 1) := by decide +kernel
theorem dX32_value_1 : decode cX32_value 1 = .ok (.aload_n 0, 1) := by decide +kernel
theorem dX32_value_2 : decode cX32_value 2 = .ok (.getfield 190, 3) := by decide +kernel
theorem dX32_value_5 : decode cX32_value 5 = .ok (.invokestatic 69, 3) := by decide +kernel
theorem dX32_value_8 : decode cX32_value 8 = .ok (.ifCond .eq 12, 3) := by decide +kernel
theorem dX32_value_11 : decode cX32_value 11 = .ok (.iload_n 2, 1) := by decide +kernel
theorem dX32_value_12 : decode cX32_value 12 = .ok (.bipush 6, 2) := by decide +kernel
theorem dX32_value_14 : decode cX32_value 14 = .ok (.invokestatic 69, 3) := by decide +kernel
theorem dX32_value_17 : decode cX32_value 17 = .ok (.ifCond .ne 5, 3) := by decide +kernel
theorem dX32_value_20 : decode cX32_value 20 = .ok (.iconst (-1), 1) := by decide +kernel
theorem dX32_value_21 : decode cX32_value 21 = .ok (.ireturn, 1) := by decide +kernel
theorem dX32_value_22 : decode cX32_value 22 = .ok (.aload_n 0, 1) := by decide +kernel
theorem dX32_value_23 : decode cX32_value 23 = .ok (.getfield 193, 3) := by decide +kernel
theorem dX32_value_26 : decode cX32_value 26 = .ok (.iload_n 2, 1) := by decide +kernel
theorem dX32_value_27 : decode cX32_value 27 = .ok (.ishr, 1) := by decide +kernel
theorem dX32_value_28 : decode cX32_value 28 = .ok (.iconst 1, 1) := by decide +kernel
theorem dX32_value_29 : decode cX32_value 29 = .ok (.iand, 1) := by decide +kernel
theorem dX32_value_30 : decode cX32_value 30 = .ok (.ifCond .ne 11, 3) := by decide +kernel
theorem dX32_value_33 : decode cX32_value 33 = .ok (.new 225, 3) := by decide +kernel
theorem dX32_value_36 : decode cX32_value 36 = .ok (.dup, 1) := by decide +kernel
theorem dX32_value_37 : decode cX32_value 37 = .ok (.invokespecial 227, 3) := by decide +kernel
theorem dX32_value_40 : decode cX32_value 40 = .ok (.athrow, 1) := by decide +kernel
theorem dX32_value_41 : decode cX32_value 41 = .ok (.aload_n 0, 1) := by decide +kernel
theorem dX32_value_42 : decode cX32_value 42 = .ok (.getfield 55, 3) := by decide +kernel
theorem dX32_value_45 : decode cX32_value 45 = .ok (.bipush 6, 2) := by decide +kernel
theorem dX32_value_47 : decode cX32_value 47 = .ok (.iload_n 1, 1) := by decide +kernel
theorem dX32_value_48 : decode cX32_value 48 = .ok (.imul, 1) := by decide +kernel
theorem dX32_value_49 : decode cX32_value 49 = .ok (.iload_n 2, 1) := by decide +kernel
theorem dX32_value_50 : decode cX32_value 50 = .ok (.iadd, 1) := by decide +kernel
theorem dX32_value_51 : decode cX32_value 51 = .ok (.iaload, 1) := by decide +kernel
theorem dX32_value_52 : decode cX32_value 52 = .ok (.ireturn, 1) := by decide +kernel
abbrev cX32_isIn : ByteArray := prog_72_method_2_code
def yX32_isIn : MethodName := ⟨RX32, "isIn", "(II)Z"⟩
theorem dX32_isIn_0 : decode cX32_isIn 0 = .ok (.iload_n 0, 1) := by decide +kernel
theorem dX32_isIn_1 : decode cX32_isIn 1 = .ok (.ifCond .lt 12, 3) := by decide +kernel
theorem dX32_isIn_4 : decode cX32_isIn 4 = .ok (.iload_n 0, 1) := by decide +kernel
theorem dX32_isIn_5 : decode cX32_isIn 5 = .ok (.iload_n 1, 1) := by decide +kernel
theorem dX32_isIn_6 : decode cX32_isIn 6 = .ok (.if_icmp .ge 7, 3) := by decide +kernel
theorem dX32_isIn_9 : decode cX32_isIn 9 = .ok (.iconst 1, 1) := by decide +kernel
theorem dX32_isIn_10 : decode cX32_isIn 10 = .ok (.goto 4, 3) := by decide +kernel
theorem dX32_isIn_13 : decode cX32_isIn 13 = .ok (.iconst 0, 1) := by decide +kernel
theorem dX32_isIn_14 : decode cX32_isIn 14 = .ok (.ireturn, 1) := by decide +kernel
abbrev cX32_key : ByteArray := prog_72_method_3_code
def yX32_key : MethodName := ⟨RX32, "key", "(IIZ)I"⟩
theorem dX32_key_0 : decode cX32_key 0 = .ok (.iload_n 1, 1) := by decide +kernel
theorem dX32_key_1 : decode cX32_key 1 = .ok (.iconst 4, 1) := by decide +kernel
theorem dX32_key_2 : decode cX32_key 2 = .ok (.invokestatic 69, 3) := by decide +kernel
theorem dX32_key_5 : decode cX32_key 5 = .ok (.ifCond .eq 11, 3) := by decide +kernel
theorem dX32_key_8 : decode cX32_key 8 = .ok (.iload_n 2, 1) := by decide +kernel
theorem dX32_key_9 : decode cX32_key 9 = .ok (.iconst 3, 1) := by decide +kernel
theorem dX32_key_10 : decode cX32_key 10 = .ok (.invokestatic 69, 3) := by decide +kernel
theorem dX32_key_13 : decode cX32_key 13 = .ok (.ifCond .ne 5, 3) := by decide +kernel
theorem dX32_key_16 : decode cX32_key 16 = .ok (.iconst (-1), 1) := by decide +kernel
theorem dX32_key_17 : decode cX32_key 17 = .ok (.ireturn, 1) := by decide +kernel
theorem dX32_key_18 : decode cX32_key 18 = .ok (.aload_n 0, 1) := by decide +kernel
theorem dX32_key_19 : decode cX32_key 19 = .ok (.getfield 9, 3) := by decide +kernel
theorem dX32_key_22 : decode cX32_key 22 = .ok (.iload_n 1, 1) := by decide +kernel
theorem dX32_key_23 : decode cX32_key 23 = .ok (.aaload, 1) := by decide +kernel
theorem dX32_key_24 : decode cX32_key 24 = .ok (.astore 4, 2) := by decide +kernel
theorem dX32_key_26 : decode cX32_key 26 = .ok (.aload 4, 2) := by decide +kernel
theorem dX32_key_28 : decode cX32_key 28 = .ok (.getfield 73, 3) := by decide +kernel
theorem dX32_key_31 : decode cX32_key 31 = .ok (.iload_n 2, 1) := by decide +kernel
theorem dX32_key_32 : decode cX32_key 32 = .ok (.baload, 1) := by decide +kernel
theorem dX32_key_33 : decode cX32_key 33 = .ok (.iload_n 3, 1) := by decide +kernel
theorem dX32_key_34 : decode cX32_key 34 = .ok (.if_icmp .ne 5, 3) := by decide +kernel
theorem dX32_key_37 : decode cX32_key 37 = .ok (.iconst 0, 1) := by decide +kernel
theorem dX32_key_38 : decode cX32_key 38 = .ok (.ireturn, 1) := by decide +kernel
theorem dX32_key_39 : decode cX32_key 39 = .ok (.iload_n 3, 1) := by decide +kernel
theorem dX32_key_40 : decode cX32_key 40 = .ok (.ifCond .eq 15, 3) := by decide +kernel
theorem dX32_key_43 : decode cX32_key 43 = .ok (.aload 4, 2) := by decide +kernel
theorem dX32_key_45 : decode cX32_key 45 = .ok (.iload_n 2, 1) := by decide +kernel
theorem dX32_key_46 : decode cX32_key 46 = .ok (.invokevirtual 77, 3) := by decide +kernel
theorem dX32_key_49 : decode cX32_key 49 = .ok (.ifCond .eq 6, 3) := by decide +kernel
theorem dX32_key_52 : decode cX32_key 52 = .ok (.bipush (-4), 2) := by decide +kernel
theorem dX32_key_54 : decode cX32_key 54 = .ok (.ireturn, 1) := by decide +kernel
theorem dX32_key_55 : decode cX32_key 55 = .ok (.aload 4, 2) := by decide +kernel
theorem dX32_key_57 : decode cX32_key 57 = .ok (.getfield 73, 3) := by decide +kernel
theorem dX32_key_60 : decode cX32_key 60 = .ok (.iload_n 2, 1) := by decide +kernel
theorem dX32_key_61 : decode cX32_key 61 = .ok (.iload_n 3, 1) := by decide +kernel
theorem dX32_key_62 : decode cX32_key 62 = .ok (.bastore, 1) := by decide +kernel
theorem dX32_key_63 : decode cX32_key 63 = .ok (.aload_n 0, 1) := by decide +kernel
theorem dX32_key_64 : decode cX32_key 64 = .ok (.iconst 0, 1) := by decide +kernel
theorem dX32_key_65 : decode cX32_key 65 = .ok (.putfield 81, 3) := by decide +kernel
theorem dX32_key_68 : decode cX32_key 68 = .ok (.iconst 1, 1) := by decide +kernel
theorem dX32_key_69 : decode cX32_key 69 = .ok (.ireturn, 1) := by decide +kernel
abbrev cX32_row : ByteArray := prog_72_method_4_code
def yX32_row : MethodName := ⟨RX32, "row", "(IIII)I"⟩
theorem dX32_row_0 : decode cX32_row 0 = .ok (.iload_n 1, 1) := by decide +kernel
theorem dX32_row_1 : decode cX32_row 1 = .ok (.iconst 4, 1) := by decide +kernel
theorem dX32_row_2 : decode cX32_row 2 = .ok (.invokestatic 69, 3) := by decide +kernel
theorem dX32_row_5 : decode cX32_row 5 = .ok (.ifCond .eq 34, 3) := by decide +kernel
theorem dX32_row_8 : decode cX32_row 8 = .ok (.iload_n 2, 1) := by decide +kernel
theorem dX32_row_9 : decode cX32_row 9 = .ok (.sipush 10000, 3) := by decide +kernel
theorem dX32_row_12 : decode cX32_row 12 = .ok (.invokestatic 69, 3) := by decide +kernel
theorem dX32_row_15 : decode cX32_row 15 = .ok (.ifCond .eq 24, 3) := by decide +kernel
theorem dX32_row_18 : decode cX32_row 18 = .ok (.iload_n 3, 1) := by decide +kernel
theorem dX32_row_19 : decode cX32_row 19 = .ok (.sipush 10000, 3) := by decide +kernel
theorem dX32_row_22 : decode cX32_row 22 = .ok (.invokestatic 69, 3) := by decide +kernel
theorem dX32_row_25 : decode cX32_row 25 = .ok (.ifCond .eq 14, 3) := by decide +kernel
theorem dX32_row_28 : decode cX32_row 28 = .ok (.iload 4, 2) := by decide +kernel
theorem dX32_row_30 : decode cX32_row 30 = .ok (.sipush 10000, 3) := by decide +kernel
theorem dX32_row_33 : decode cX32_row 33 = .ok (.invokestatic 69, 3) := by decide +kernel
theorem dX32_row_36 : decode cX32_row 36 = .ok (.ifCond .ne 5, 3) := by decide +kernel
theorem dX32_row_39 : decode cX32_row 39 = .ok (.iconst (-1), 1) := by decide +kernel
theorem dX32_row_40 : decode cX32_row 40 = .ok (.ireturn, 1) := by decide +kernel
theorem dX32_row_41 : decode cX32_row 41 = .ok (.aload_n 0, 1) := by decide +kernel
theorem dX32_row_42 : decode cX32_row 42 = .ok (.getfield 9, 3) := by decide +kernel
theorem dX32_row_45 : decode cX32_row 45 = .ok (.iload_n 1, 1) := by decide +kernel
theorem dX32_row_46 : decode cX32_row 46 = .ok (.aaload, 1) := by decide +kernel
theorem dX32_row_47 : decode cX32_row 47 = .ok (.astore 5, 2) := by decide +kernel
theorem dX32_row_49 : decode cX32_row 49 = .ok (.iconst 0, 1) := by decide +kernel
theorem dX32_row_50 : decode cX32_row 50 = .ok (.istore 6, 2) := by decide +kernel
theorem dX32_row_52 : decode cX32_row 52 = .ok (.iconst 0, 1) := by decide +kernel
theorem dX32_row_53 : decode cX32_row 53 = .ok (.istore 7, 2) := by decide +kernel
theorem dX32_row_55 : decode cX32_row 55 = .ok (.iload 7, 2) := by decide +kernel
theorem dX32_row_57 : decode cX32_row 57 = .ok (.iconst 3, 1) := by decide +kernel
theorem dX32_row_58 : decode cX32_row 58 = .ok (.if_icmp .ge 68, 3) := by decide +kernel
theorem dX32_row_61 : decode cX32_row 61 = .ok (.iload 6, 2) := by decide +kernel
theorem dX32_row_63 : decode cX32_row 63 = .ok (.ifCond .ne 50, 3) := by decide +kernel
theorem dX32_row_66 : decode cX32_row 66 = .ok (.aload 5, 2) := by decide +kernel
theorem dX32_row_68 : decode cX32_row 68 = .ok (.getfield 73, 3) := by decide +kernel
theorem dX32_row_71 : decode cX32_row 71 = .ok (.iload 7, 2) := by decide +kernel
theorem dX32_row_73 : decode cX32_row 73 = .ok (.baload, 1) := by decide +kernel
theorem dX32_row_74 : decode cX32_row 74 = .ok (.ifCond .eq 43, 3) := by decide +kernel
theorem dX32_row_77 : decode cX32_row 77 = .ok (.aload 5, 2) := by decide +kernel
theorem dX32_row_79 : decode cX32_row 79 = .ok (.iload 7, 2) := by decide +kernel
theorem dX32_row_81 : decode cX32_row 81 = .ok (.iload 7, 2) := by decide +kernel
theorem dX32_row_83 : decode cX32_row 83 = .ok (.ifCond .ne 7, 3) := by decide +kernel
theorem dX32_row_86 : decode cX32_row 86 = .ok (.iload_n 2, 1) := by decide +kernel
theorem dX32_row_87 : decode cX32_row 87 = .ok (.goto 15, 3) := by decide +kernel
theorem dX32_row_90 : decode cX32_row 90 = .ok (.iload 7, 2) := by decide +kernel
theorem dX32_row_92 : decode cX32_row 92 = .ok (.iconst 1, 1) := by decide +kernel
theorem dX32_row_93 : decode cX32_row 93 = .ok (.if_icmp .ne 7, 3) := by decide +kernel
theorem dX32_row_96 : decode cX32_row 96 = .ok (.iload_n 3, 1) := by decide +kernel
theorem dX32_row_97 : decode cX32_row 97 = .ok (.goto 5, 3) := by decide +kernel
theorem dX32_row_100 : decode cX32_row 100 = .ok (.iload 4, 2) := by decide +kernel
theorem dX32_row_102 : decode cX32_row 102 = .ok (.aload 5, 2) := by decide +kernel
theorem dX32_row_104 : decode cX32_row 104 = .ok (.getfield 85, 3) := by decide +kernel
theorem dX32_row_107 : decode cX32_row 107 = .ok (.invokevirtual 89, 3) := by decide +kernel
theorem dX32_row_110 : decode cX32_row 110 = .ok (.ifCond .eq 7, 3) := by decide +kernel
theorem dX32_row_113 : decode cX32_row 113 = .ok (.iconst 1, 1) := by decide +kernel
theorem dX32_row_114 : decode cX32_row 114 = .ok (.goto 4, 3) := by decide +kernel
theorem dX32_row_117 : decode cX32_row 117 = .ok (.iconst 0, 1) := by decide +kernel
theorem dX32_row_118 : decode cX32_row 118 = .ok (.istore 6, 2) := by decide +kernel
theorem dX32_row_120 : decode cX32_row 120 = .ok (.iinc 7 1, 3) := by decide +kernel
theorem dX32_row_123 : decode cX32_row 123 = .ok (.goto (-68), 3) := by decide +kernel
theorem dX32_row_126 : decode cX32_row 126 = .ok (.iload 6, 2) := by decide +kernel
theorem dX32_row_128 : decode cX32_row 128 = .ok (.ifCond .eq 6, 3) := by decide +kernel
theorem dX32_row_131 : decode cX32_row 131 = .ok (.bipush (-4), 2) := by decide +kernel
theorem dX32_row_133 : decode cX32_row 133 = .ok (.ireturn, 1) := by decide +kernel
theorem dX32_row_134 : decode cX32_row 134 = .ok (.aload 5, 2) := by decide +kernel
theorem dX32_row_136 : decode cX32_row 136 = .ok (.getfield 85, 3) := by decide +kernel
theorem dX32_row_139 : decode cX32_row 139 = .ok (.bipush 20, 2) := by decide +kernel
theorem dX32_row_141 : decode cX32_row 141 = .ok (.if_icmp .ne 6, 3) := by decide +kernel
theorem dX32_row_144 : decode cX32_row 144 = .ok (.bipush (-2), 2) := by decide +kernel
theorem dX32_row_146 : decode cX32_row 146 = .ok (.ireturn, 1) := by decide +kernel
theorem dX32_row_147 : decode cX32_row 147 = .ok (.aload 5, 2) := by decide +kernel
theorem dX32_row_149 : decode cX32_row 149 = .ok (.getfield 93, 3) := by decide +kernel
theorem dX32_row_152 : decode cX32_row 152 = .ok (.iconst 3, 1) := by decide +kernel
theorem dX32_row_153 : decode cX32_row 153 = .ok (.aload 5, 2) := by decide +kernel
theorem dX32_row_155 : decode cX32_row 155 = .ok (.getfield 85, 3) := by decide +kernel
theorem dX32_row_158 : decode cX32_row 158 = .ok (.imul, 1) := by decide +kernel
theorem dX32_row_159 : decode cX32_row 159 = .ok (.iload_n 2, 1) := by decide +kernel
theorem dX32_row_160 : decode cX32_row 160 = .ok (.iastore, 1) := by decide +kernel
theorem dX32_row_161 : decode cX32_row 161 = .ok (.aload 5, 2) := by decide +kernel
theorem dX32_row_163 : decode cX32_row 163 = .ok (.getfield 93, 3) := by decide +kernel
theorem dX32_row_166 : decode cX32_row 166 = .ok (.iconst 3, 1) := by decide +kernel
theorem dX32_row_167 : decode cX32_row 167 = .ok (.aload 5, 2) := by decide +kernel
theorem dX32_row_169 : decode cX32_row 169 = .ok (.getfield 85, 3) := by decide +kernel
theorem dX32_row_172 : decode cX32_row 172 = .ok (.imul, 1) := by decide +kernel
theorem dX32_row_173 : decode cX32_row 173 = .ok (.iconst 1, 1) := by decide +kernel
theorem dX32_row_174 : decode cX32_row 174 = .ok (.iadd, 1) := by decide +kernel
theorem dX32_row_175 : decode cX32_row 175 = .ok (.iload_n 3, 1) := by decide +kernel
theorem dX32_row_176 : decode cX32_row 176 = .ok (.iastore, 1) := by decide +kernel
theorem dX32_row_177 : decode cX32_row 177 = .ok (.aload 5, 2) := by decide +kernel
theorem dX32_row_179 : decode cX32_row 179 = .ok (.getfield 93, 3) := by decide +kernel
theorem dX32_row_182 : decode cX32_row 182 = .ok (.iconst 3, 1) := by decide +kernel
theorem dX32_row_183 : decode cX32_row 183 = .ok (.aload 5, 2) := by decide +kernel
theorem dX32_row_185 : decode cX32_row 185 = .ok (.getfield 85, 3) := by decide +kernel
theorem dX32_row_188 : decode cX32_row 188 = .ok (.imul, 1) := by decide +kernel
theorem dX32_row_189 : decode cX32_row 189 = .ok (.iconst 2, 1) := by decide +kernel
theorem dX32_row_190 : decode cX32_row 190 = .ok (.iadd, 1) := by decide +kernel
theorem dX32_row_191 : decode cX32_row 191 = .ok (.iload 4, 2) := by decide +kernel
theorem dX32_row_193 : decode cX32_row 193 = .ok (.iastore, 1) := by decide +kernel
theorem dX32_row_194 : decode cX32_row 194 = .ok (.aload 5, 2) := by decide +kernel
theorem dX32_row_196 : decode cX32_row 196 = .ok (.dup, 1) := by decide +kernel
theorem dX32_row_197 : decode cX32_row 197 = .ok (.getfield 85, 3) := by decide +kernel
theorem dX32_row_200 : decode cX32_row 200 = .ok (.iconst 1, 1) := by decide +kernel
theorem dX32_row_201 : decode cX32_row 201 = .ok (.iadd, 1) := by decide +kernel
theorem dX32_row_202 : decode cX32_row 202 = .ok (.putfield 85, 3) := by decide +kernel
theorem dX32_row_205 : decode cX32_row 205 = .ok (.aload 5, 2) := by decide +kernel
theorem dX32_row_207 : decode cX32_row 207 = .ok (.getfield 85, 3) := by decide +kernel
theorem dX32_row_210 : decode cX32_row 210 = .ok (.ireturn, 1) := by decide +kernel
abbrev cX32_drop : ByteArray := prog_72_method_5_code
def yX32_drop : MethodName := ⟨RX32, "drop", "(II)I"⟩
theorem dX32_drop_0 : decode cX32_drop 0 = .ok (.iload_n 1, 1) := by decide +kernel
theorem dX32_drop_1 : decode cX32_drop 1 = .ok (.iconst 4, 1) := by decide +kernel
theorem dX32_drop_2 : decode cX32_drop 2 = .ok (.invokestatic 69, 3) := by decide +kernel
theorem dX32_drop_5 : decode cX32_drop 5 = .ok (.ifCond .eq 19, 3) := by decide +kernel
theorem dX32_drop_8 : decode cX32_drop 8 = .ok (.iload_n 2, 1) := by decide +kernel
theorem dX32_drop_9 : decode cX32_drop 9 = .ok (.aload_n 0, 1) := by decide +kernel
theorem dX32_drop_10 : decode cX32_drop 10 = .ok (.getfield 9, 3) := by decide +kernel
theorem dX32_drop_13 : decode cX32_drop 13 = .ok (.iload_n 1, 1) := by decide +kernel
theorem dX32_drop_14 : decode cX32_drop 14 = .ok (.aaload, 1) := by decide +kernel
theorem dX32_drop_15 : decode cX32_drop 15 = .ok (.getfield 85, 3) := by decide +kernel
theorem dX32_drop_18 : decode cX32_drop 18 = .ok (.invokestatic 69, 3) := by decide +kernel
theorem dX32_drop_21 : decode cX32_drop 21 = .ok (.ifCond .ne 5, 3) := by decide +kernel
theorem dX32_drop_24 : decode cX32_drop 24 = .ok (.iconst (-1), 1) := by decide +kernel
theorem dX32_drop_25 : decode cX32_drop 25 = .ok (.ireturn, 1) := by decide +kernel
theorem dX32_drop_26 : decode cX32_drop 26 = .ok (.aload_n 0, 1) := by decide +kernel
theorem dX32_drop_27 : decode cX32_drop 27 = .ok (.getfield 9, 3) := by decide +kernel
theorem dX32_drop_30 : decode cX32_drop 30 = .ok (.iload_n 1, 1) := by decide +kernel
theorem dX32_drop_31 : decode cX32_drop 31 = .ok (.aaload, 1) := by decide +kernel
theorem dX32_drop_32 : decode cX32_drop 32 = .ok (.iload_n 2, 1) := by decide +kernel
theorem dX32_drop_33 : decode cX32_drop 33 = .ok (.invokevirtual 96, 3) := by decide +kernel
theorem dX32_drop_36 : decode cX32_drop 36 = .ok (.aload_n 0, 1) := by decide +kernel
theorem dX32_drop_37 : decode cX32_drop 37 = .ok (.getfield 9, 3) := by decide +kernel
theorem dX32_drop_40 : decode cX32_drop 40 = .ok (.iload_n 1, 1) := by decide +kernel
theorem dX32_drop_41 : decode cX32_drop 41 = .ok (.aaload, 1) := by decide +kernel
theorem dX32_drop_42 : decode cX32_drop 42 = .ok (.getfield 85, 3) := by decide +kernel
theorem dX32_drop_45 : decode cX32_drop 45 = .ok (.ireturn, 1) := by decide +kernel
abbrev cX32_mapping : ByteArray := prog_72_method_6_code
def yX32_mapping : MethodName := ⟨RX32, "mapping", "(IIIIII)I"⟩
theorem dX32_mapping_0 : decode cX32_mapping 0 = .ok (.iload_n 1, 1) := by decide +kernel
theorem dX32_mapping_1 : decode cX32_mapping 1 = .ok (.iconst 4, 1) := by decide +kernel
theorem dX32_mapping_2 : decode cX32_mapping 2 = .ok (.invokestatic 69, 3) := by decide +kernel
theorem dX32_mapping_5 : decode cX32_mapping 5 = .ok (.ifCond .eq 53, 3) := by decide +kernel
theorem dX32_mapping_8 : decode cX32_mapping 8 = .ok (.iload_n 2, 1) := by decide +kernel
theorem dX32_mapping_9 : decode cX32_mapping 9 = .ok (.bipush 8, 2) := by decide +kernel
theorem dX32_mapping_11 : decode cX32_mapping 11 = .ok (.invokestatic 69, 3) := by decide +kernel
theorem dX32_mapping_14 : decode cX32_mapping 14 = .ok (.ifCond .eq 44, 3) := by decide +kernel
theorem dX32_mapping_17 : decode cX32_mapping 17 = .ok (.iload_n 3, 1) := by decide +kernel
theorem dX32_mapping_18 : decode cX32_mapping 18 = .ok (.bipush 6, 2) := by decide +kernel
theorem dX32_mapping_20 : decode cX32_mapping 20 = .ok (.invokestatic 69, 3) := by decide +kernel
theorem dX32_mapping_23 : decode cX32_mapping 23 = .ok (.ifCond .eq 35, 3) := by decide +kernel
theorem dX32_mapping_26 : decode cX32_mapping 26 = .ok (.iload 4, 2) := by decide +kernel
theorem dX32_mapping_28 : decode cX32_mapping 28 = .ok (.iconst 3, 1) := by decide +kernel
theorem dX32_mapping_29 : decode cX32_mapping 29 = .ok (.invokestatic 69, 3) := by decide +kernel
theorem dX32_mapping_32 : decode cX32_mapping 32 = .ok (.ifCond .eq 26, 3) := by decide +kernel
theorem dX32_mapping_35 : decode cX32_mapping 35 = .ok (.iload 5, 2) := by decide +kernel
theorem dX32_mapping_37 : decode cX32_mapping 37 = .ok (.bipush 6, 2) := by decide +kernel
theorem dX32_mapping_39 : decode cX32_mapping 39 = .ok (.invokestatic 69, 3) := by decide +kernel
theorem dX32_mapping_42 : decode cX32_mapping 42 = .ok (.ifCond .eq 16, 3) := by decide +kernel
theorem dX32_mapping_45 : decode cX32_mapping 45 = .ok (.iload 6, 2) := by decide +kernel
theorem dX32_mapping_47 : decode cX32_mapping 47 = .ok (.iconst 3, 1) := by decide +kernel
theorem dX32_mapping_48 : decode cX32_mapping 48 = .ok (.invokestatic 69, 3) := by decide +kernel
theorem dX32_mapping_51 : decode cX32_mapping 51 = .ok (.ifCond .eq 7, 3) := by decide +kernel
theorem dX32_mapping_54 : decode cX32_mapping 54 = .ok (.iconst 1, 1) := by decide +kernel
theorem dX32_mapping_55 : decode cX32_mapping 55 = .ok (.goto 4, 3) := by decide +kernel
theorem dX32_mapping_58 : decode cX32_mapping 58 = .ok (.iconst 0, 1) := by decide +kernel
theorem dX32_mapping_59 : decode cX32_mapping 59 = .ok (.istore 7, 2) := by decide +kernel
theorem dX32_mapping_61 : decode cX32_mapping 61 = .ok (.iload 7, 2) := by decide +kernel
theorem dX32_mapping_63 : decode cX32_mapping 63 = .ok (.ifCond .ne 5, 3) := by decide +kernel
theorem dX32_mapping_66 : decode cX32_mapping 66 = .ok (.iconst (-1), 1) := by decide +kernel
theorem dX32_mapping_67 : decode cX32_mapping 67 = .ok (.ireturn, 1) := by decide +kernel
theorem dX32_mapping_68 : decode cX32_mapping 68 = .ok (.aload_n 0, 1) := by decide +kernel
theorem dX32_mapping_69 : decode cX32_mapping 69 = .ok (.getfield 100, 3) := by decide +kernel
theorem dX32_mapping_72 : decode cX32_mapping 72 = .ok (.bipush 12, 2) := by decide +kernel
theorem dX32_mapping_74 : decode cX32_mapping 74 = .ok (.if_icmp .ne 6, 3) := by decide +kernel
theorem dX32_mapping_77 : decode cX32_mapping 77 = .ok (.bipush (-2), 2) := by decide +kernel
theorem dX32_mapping_79 : decode cX32_mapping 79 = .ok (.ireturn, 1) := by decide +kernel
theorem dX32_mapping_80 : decode cX32_mapping 80 = .ok (.new 15, 3) := by decide +kernel
theorem dX32_mapping_83 : decode cX32_mapping 83 = .ok (.dup, 1) := by decide +kernel
theorem dX32_mapping_84 : decode cX32_mapping 84 = .ok (.aload_n 0, 1) := by decide +kernel
theorem dX32_mapping_85 : decode cX32_mapping 85 = .ok (.getfield 9, 3) := by decide +kernel
theorem dX32_mapping_88 : decode cX32_mapping 88 = .ok (.iload_n 1, 1) := by decide +kernel
theorem dX32_mapping_89 : decode cX32_mapping 89 = .ok (.aaload, 1) := by decide +kernel
theorem dX32_mapping_90 : decode cX32_mapping 90 = .ok (.iload_n 2, 1) := by decide +kernel
theorem dX32_mapping_91 : decode cX32_mapping 91 = .ok (.invokespecial 103, 3) := by decide +kernel
theorem dX32_mapping_94 : decode cX32_mapping 94 = .ok (.astore 8, 2) := by decide +kernel
theorem dX32_mapping_96 : decode cX32_mapping 96 = .ok (.aload 8, 2) := by decide +kernel
theorem dX32_mapping_98 : decode cX32_mapping 98 = .ok (.getfield 106, 3) := by decide +kernel
theorem dX32_mapping_101 : decode cX32_mapping 101 = .ok (.iconst 0, 1) := by decide +kernel
theorem dX32_mapping_102 : decode cX32_mapping 102 = .ok (.iload_n 3, 1) := by decide +kernel
theorem dX32_mapping_103 : decode cX32_mapping 103 = .ok (.iastore, 1) := by decide +kernel
theorem dX32_mapping_104 : decode cX32_mapping 104 = .ok (.aload 8, 2) := by decide +kernel
theorem dX32_mapping_106 : decode cX32_mapping 106 = .ok (.getfield 106, 3) := by decide +kernel
theorem dX32_mapping_109 : decode cX32_mapping 109 = .ok (.iconst 1, 1) := by decide +kernel
theorem dX32_mapping_110 : decode cX32_mapping 110 = .ok (.iload 5, 2) := by decide +kernel
theorem dX32_mapping_112 : decode cX32_mapping 112 = .ok (.iastore, 1) := by decide +kernel
theorem dX32_mapping_113 : decode cX32_mapping 113 = .ok (.aload 8, 2) := by decide +kernel
theorem dX32_mapping_115 : decode cX32_mapping 115 = .ok (.getfield 109, 3) := by decide +kernel
theorem dX32_mapping_118 : decode cX32_mapping 118 = .ok (.iconst 0, 1) := by decide +kernel
theorem dX32_mapping_119 : decode cX32_mapping 119 = .ok (.iload 4, 2) := by decide +kernel
theorem dX32_mapping_121 : decode cX32_mapping 121 = .ok (.iastore, 1) := by decide +kernel
theorem dX32_mapping_122 : decode cX32_mapping 122 = .ok (.aload 8, 2) := by decide +kernel
theorem dX32_mapping_124 : decode cX32_mapping 124 = .ok (.getfield 109, 3) := by decide +kernel
theorem dX32_mapping_127 : decode cX32_mapping 127 = .ok (.iconst 1, 1) := by decide +kernel
theorem dX32_mapping_128 : decode cX32_mapping 128 = .ok (.iload 6, 2) := by decide +kernel
theorem dX32_mapping_130 : decode cX32_mapping 130 = .ok (.iastore, 1) := by decide +kernel
theorem dX32_mapping_131 : decode cX32_mapping 131 = .ok (.aload_n 0, 1) := by decide +kernel
theorem dX32_mapping_132 : decode cX32_mapping 132 = .ok (.getfield 17, 3) := by decide +kernel
theorem dX32_mapping_135 : decode cX32_mapping 135 = .ok (.aload_n 0, 1) := by decide +kernel
theorem dX32_mapping_136 : decode cX32_mapping 136 = .ok (.getfield 100, 3) := by decide +kernel
theorem dX32_mapping_139 : decode cX32_mapping 139 = .ok (.aload 8, 2) := by decide +kernel
theorem dX32_mapping_141 : decode cX32_mapping 141 = .ok (.aastore, 1) := by decide +kernel
theorem dX32_mapping_142 : decode cX32_mapping 142 = .ok (.aload_n 0, 1) := by decide +kernel
theorem dX32_mapping_143 : decode cX32_mapping 143 = .ok (.dup, 1) := by decide +kernel
theorem dX32_mapping_144 : decode cX32_mapping 144 = .ok (.getfield 100, 3) := by decide +kernel
theorem dX32_mapping_147 : decode cX32_mapping 147 = .ok (.iconst 1, 1) := by decide +kernel
theorem dX32_mapping_148 : decode cX32_mapping 148 = .ok (.iadd, 1) := by decide +kernel
theorem dX32_mapping_149 : decode cX32_mapping 149 = .ok (.putfield 100, 3) := by decide +kernel
theorem dX32_mapping_152 : decode cX32_mapping 152 = .ok (.aload_n 0, 1) := by decide +kernel
theorem dX32_mapping_153 : decode cX32_mapping 153 = .ok (.iconst 0, 1) := by decide +kernel
theorem dX32_mapping_154 : decode cX32_mapping 154 = .ok (.putfield 81, 3) := by decide +kernel
theorem dX32_mapping_157 : decode cX32_mapping 157 = .ok (.aload_n 0, 1) := by decide +kernel
theorem dX32_mapping_158 : decode cX32_mapping 158 = .ok (.getfield 100, 3) := by decide +kernel
theorem dX32_mapping_161 : decode cX32_mapping 161 = .ok (.iconst 1, 1) := by decide +kernel
theorem dX32_mapping_162 : decode cX32_mapping 162 = .ok (.isub, 1) := by decide +kernel
theorem dX32_mapping_163 : decode cX32_mapping 163 = .ok (.ireturn, 1) := by decide +kernel
abbrev cX32_triples : ByteArray := prog_72_method_8_code
def yX32_triples : MethodName := ⟨RX32, "triples", "()I"⟩
theorem dX32_triples_0 : decode cX32_triples 0 = .ok (.iconst 0, 1) := by decide +kernel
theorem dX32_triples_1 : decode cX32_triples 1 = .ok (.istore_n 1, 1) := by decide +kernel
theorem dX32_triples_2 : decode cX32_triples 2 = .ok (.iconst 0, 1) := by decide +kernel
theorem dX32_triples_3 : decode cX32_triples 3 = .ok (.istore_n 2, 1) := by decide +kernel
theorem dX32_triples_4 : decode cX32_triples 4 = .ok (.iload_n 2, 1) := by decide +kernel
theorem dX32_triples_5 : decode cX32_triples 5 = .ok (.aload_n 0, 1) := by decide +kernel
theorem dX32_triples_6 : decode cX32_triples 6 = .ok (.getfield 100, 3) := by decide +kernel
theorem dX32_triples_9 : decode cX32_triples 9 = .ok (.if_icmp .ge 50, 3) := by decide +kernel
theorem dX32_triples_12 : decode cX32_triples 12 = .ok (.iconst 0, 1) := by decide +kernel
theorem dX32_triples_13 : decode cX32_triples 13 = .ok (.istore_n 3, 1) := by decide +kernel
theorem dX32_triples_14 : decode cX32_triples 14 = .ok (.iload_n 3, 1) := by decide +kernel
theorem dX32_triples_15 : decode cX32_triples 15 = .ok (.aload_n 0, 1) := by decide +kernel
theorem dX32_triples_16 : decode cX32_triples 16 = .ok (.getfield 17, 3) := by decide +kernel
theorem dX32_triples_19 : decode cX32_triples 19 = .ok (.iload_n 2, 1) := by decide +kernel
theorem dX32_triples_20 : decode cX32_triples 20 = .ok (.aaload, 1) := by decide +kernel
theorem dX32_triples_21 : decode cX32_triples 21 = .ok (.getfield 112, 3) := by decide +kernel
theorem dX32_triples_24 : decode cX32_triples 24 = .ok (.getfield 85, 3) := by decide +kernel
theorem dX32_triples_27 : decode cX32_triples 27 = .ok (.if_icmp .ge 26, 3) := by decide +kernel
theorem dX32_triples_30 : decode cX32_triples 30 = .ok (.iload_n 1, 1) := by decide +kernel
theorem dX32_triples_31 : decode cX32_triples 31 = .ok (.aload_n 0, 1) := by decide +kernel
theorem dX32_triples_32 : decode cX32_triples 32 = .ok (.iload_n 2, 1) := by decide +kernel
theorem dX32_triples_33 : decode cX32_triples 33 = .ok (.iload_n 3, 1) := by decide +kernel
theorem dX32_triples_34 : decode cX32_triples 34 = .ok (.invokevirtual 123, 3) := by decide +kernel
theorem dX32_triples_37 : decode cX32_triples 37 = .ok (.ifCond .eq 7, 3) := by decide +kernel
theorem dX32_triples_40 : decode cX32_triples 40 = .ok (.iconst 0, 1) := by decide +kernel
theorem dX32_triples_41 : decode cX32_triples 41 = .ok (.goto 4, 3) := by decide +kernel
theorem dX32_triples_44 : decode cX32_triples 44 = .ok (.iconst 1, 1) := by decide +kernel
theorem dX32_triples_45 : decode cX32_triples 45 = .ok (.iadd, 1) := by decide +kernel
theorem dX32_triples_46 : decode cX32_triples 46 = .ok (.istore_n 1, 1) := by decide +kernel
theorem dX32_triples_47 : decode cX32_triples 47 = .ok (.iinc 3 1, 3) := by decide +kernel
theorem dX32_triples_50 : decode cX32_triples 50 = .ok (.goto (-36), 3) := by decide +kernel
theorem dX32_triples_53 : decode cX32_triples 53 = .ok (.iinc 2 1, 3) := by decide +kernel
theorem dX32_triples_56 : decode cX32_triples 56 = .ok (.goto (-52), 3) := by decide +kernel
theorem dX32_triples_59 : decode cX32_triples 59 = .ok (.iload_n 1, 1) := by decide +kernel
theorem dX32_triples_60 : decode cX32_triples 60 = .ok (.ireturn, 1) := by decide +kernel
abbrev cX32_isSaid : ByteArray := prog_72_method_7_code
def yX32_isSaid : MethodName := ⟨RX32, "isSaid", "(II)Z"⟩
theorem dX32_isSaid_0 : decode cX32_isSaid 0 = .ok (.aload_n 0, 1) := by decide +kernel
theorem dX32_isSaid_1 : decode cX32_isSaid 1 = .ok (.getfield 17, 3) := by decide +kernel
theorem dX32_isSaid_4 : decode cX32_isSaid 4 = .ok (.iload_n 1, 1) := by decide +kernel
theorem dX32_isSaid_5 : decode cX32_isSaid 5 = .ok (.aaload, 1) := by decide +kernel
theorem dX32_isSaid_6 : decode cX32_isSaid 6 = .ok (.astore_n 3, 1) := by decide +kernel
theorem dX32_isSaid_7 : decode cX32_isSaid 7 = .ok (.iconst 0, 1) := by decide +kernel
theorem dX32_isSaid_8 : decode cX32_isSaid 8 = .ok (.istore 4, 2) := by decide +kernel
theorem dX32_isSaid_10 : decode cX32_isSaid 10 = .ok (.iconst 0, 1) := by decide +kernel
theorem dX32_isSaid_11 : decode cX32_isSaid 11 = .ok (.istore 5, 2) := by decide +kernel
theorem dX32_isSaid_13 : decode cX32_isSaid 13 = .ok (.iload 5, 2) := by decide +kernel
theorem dX32_isSaid_15 : decode cX32_isSaid 15 = .ok (.iload_n 1, 1) := by decide +kernel
theorem dX32_isSaid_16 : decode cX32_isSaid 16 = .ok (.if_icmp .gt 117, 3) := by decide +kernel
theorem dX32_isSaid_19 : decode cX32_isSaid 19 = .ok (.iload 4, 2) := by decide +kernel
theorem dX32_isSaid_21 : decode cX32_isSaid 21 = .ok (.ifCond .ne 112, 3) := by decide +kernel
theorem dX32_isSaid_24 : decode cX32_isSaid 24 = .ok (.aload_n 0, 1) := by decide +kernel
theorem dX32_isSaid_25 : decode cX32_isSaid 25 = .ok (.getfield 17, 3) := by decide +kernel
theorem dX32_isSaid_28 : decode cX32_isSaid 28 = .ok (.iload 5, 2) := by decide +kernel
theorem dX32_isSaid_30 : decode cX32_isSaid 30 = .ok (.aaload, 1) := by decide +kernel
theorem dX32_isSaid_31 : decode cX32_isSaid 31 = .ok (.astore 6, 2) := by decide +kernel
theorem dX32_isSaid_33 : decode cX32_isSaid 33 = .ok (.iload 5, 2) := by decide +kernel
theorem dX32_isSaid_35 : decode cX32_isSaid 35 = .ok (.iload_n 1, 1) := by decide +kernel
theorem dX32_isSaid_36 : decode cX32_isSaid 36 = .ok (.if_icmp .ne 7, 3) := by decide +kernel
theorem dX32_isSaid_39 : decode cX32_isSaid 39 = .ok (.iload_n 2, 1) := by decide +kernel
theorem dX32_isSaid_40 : decode cX32_isSaid 40 = .ok (.goto 11, 3) := by decide +kernel
theorem dX32_isSaid_43 : decode cX32_isSaid 43 = .ok (.aload 6, 2) := by decide +kernel
theorem dX32_isSaid_45 : decode cX32_isSaid 45 = .ok (.getfield 112, 3) := by decide +kernel
theorem dX32_isSaid_48 : decode cX32_isSaid 48 = .ok (.getfield 85, 3) := by decide +kernel
theorem dX32_isSaid_51 : decode cX32_isSaid 51 = .ok (.istore 7, 2) := by decide +kernel
theorem dX32_isSaid_53 : decode cX32_isSaid 53 = .ok (.iconst 0, 1) := by decide +kernel
theorem dX32_isSaid_54 : decode cX32_isSaid 54 = .ok (.istore 8, 2) := by decide +kernel
theorem dX32_isSaid_56 : decode cX32_isSaid 56 = .ok (.iload 8, 2) := by decide +kernel
theorem dX32_isSaid_58 : decode cX32_isSaid 58 = .ok (.iload 7, 2) := by decide +kernel
theorem dX32_isSaid_60 : decode cX32_isSaid 60 = .ok (.if_icmp .ge 67, 3) := by decide +kernel
theorem dX32_isSaid_63 : decode cX32_isSaid 63 = .ok (.iload 4, 2) := by decide +kernel
theorem dX32_isSaid_65 : decode cX32_isSaid 65 = .ok (.ifCond .ne 62, 3) := by decide +kernel
theorem dX32_isSaid_68 : decode cX32_isSaid 68 = .ok (.aload 6, 2) := by decide +kernel
theorem dX32_isSaid_70 : decode cX32_isSaid 70 = .ok (.getfield 116, 3) := by decide +kernel
theorem dX32_isSaid_73 : decode cX32_isSaid 73 = .ok (.aload_n 3, 1) := by decide +kernel
theorem dX32_isSaid_74 : decode cX32_isSaid 74 = .ok (.getfield 116, 3) := by decide +kernel
theorem dX32_isSaid_77 : decode cX32_isSaid 77 = .ok (.if_icmp .ne 50, 3) := by decide +kernel
theorem dX32_isSaid_80 : decode cX32_isSaid 80 = .ok (.aload 6, 2) := by decide +kernel
theorem dX32_isSaid_82 : decode cX32_isSaid 82 = .ok (.iload 8, 2) := by decide +kernel
theorem dX32_isSaid_84 : decode cX32_isSaid 84 = .ok (.iconst 0, 1) := by decide +kernel
theorem dX32_isSaid_85 : decode cX32_isSaid 85 = .ok (.invokevirtual 119, 3) := by decide +kernel
theorem dX32_isSaid_88 : decode cX32_isSaid 88 = .ok (.aload_n 3, 1) := by decide +kernel
theorem dX32_isSaid_89 : decode cX32_isSaid 89 = .ok (.iload_n 2, 1) := by decide +kernel
theorem dX32_isSaid_90 : decode cX32_isSaid 90 = .ok (.iconst 0, 1) := by decide +kernel
theorem dX32_isSaid_91 : decode cX32_isSaid 91 = .ok (.invokevirtual 119, 3) := by decide +kernel
theorem dX32_isSaid_94 : decode cX32_isSaid 94 = .ok (.if_icmp .ne 24, 3) := by decide +kernel
theorem dX32_isSaid_97 : decode cX32_isSaid 97 = .ok (.aload 6, 2) := by decide +kernel
theorem dX32_isSaid_99 : decode cX32_isSaid 99 = .ok (.iload 8, 2) := by decide +kernel
theorem dX32_isSaid_101 : decode cX32_isSaid 101 = .ok (.iconst 1, 1) := by decide +kernel
theorem dX32_isSaid_102 : decode cX32_isSaid 102 = .ok (.invokevirtual 119, 3) := by decide +kernel
theorem dX32_isSaid_105 : decode cX32_isSaid 105 = .ok (.aload_n 3, 1) := by decide +kernel
theorem dX32_isSaid_106 : decode cX32_isSaid 106 = .ok (.iload_n 2, 1) := by decide +kernel
theorem dX32_isSaid_107 : decode cX32_isSaid 107 = .ok (.iconst 1, 1) := by decide +kernel
theorem dX32_isSaid_108 : decode cX32_isSaid 108 = .ok (.invokevirtual 119, 3) := by decide +kernel
theorem dX32_isSaid_111 : decode cX32_isSaid 111 = .ok (.if_icmp .ne 7, 3) := by decide +kernel
theorem dX32_isSaid_114 : decode cX32_isSaid 114 = .ok (.iconst 1, 1) := by decide +kernel
theorem dX32_isSaid_115 : decode cX32_isSaid 115 = .ok (.goto 4, 3) := by decide +kernel
theorem dX32_isSaid_118 : decode cX32_isSaid 118 = .ok (.iconst 0, 1) := by decide +kernel
theorem dX32_isSaid_119 : decode cX32_isSaid 119 = .ok (.istore 4, 2) := by decide +kernel
theorem dX32_isSaid_121 : decode cX32_isSaid 121 = .ok (.iinc 8 1, 3) := by decide +kernel
theorem dX32_isSaid_124 : decode cX32_isSaid 124 = .ok (.goto (-68), 3) := by decide +kernel
theorem dX32_isSaid_127 : decode cX32_isSaid 127 = .ok (.iinc 5 1, 3) := by decide +kernel
theorem dX32_isSaid_130 : decode cX32_isSaid 130 = .ok (.goto (-117), 3) := by decide +kernel
theorem dX32_isSaid_133 : decode cX32_isSaid 133 = .ok (.iload 4, 2) := by decide +kernel
theorem dX32_isSaid_135 : decode cX32_isSaid 135 = .ok (.ireturn, 1) := by decide +kernel
abbrev cX32_atom : ByteArray := prog_72_method_10_code
def yX32_atom : MethodName := ⟨RX32, "atom", "(III)I"⟩
theorem dX32_atom_0 : decode cX32_atom 0 = .ok (.iload_n 1, 1) := by decide +kernel
theorem dX32_atom_1 : decode cX32_atom 1 = .ok (.bipush 8, 2) := by decide +kernel
theorem dX32_atom_3 : decode cX32_atom 3 = .ok (.invokestatic 69, 3) := by decide +kernel
theorem dX32_atom_6 : decode cX32_atom 6 = .ok (.ifCond .eq 17, 3) := by decide +kernel
theorem dX32_atom_9 : decode cX32_atom 9 = .ok (.iload_n 2, 1) := by decide +kernel
theorem dX32_atom_10 : decode cX32_atom 10 = .ok (.invokestatic 127, 3) := by decide +kernel
theorem dX32_atom_13 : decode cX32_atom 13 = .ok (.ifCond .eq 10, 3) := by decide +kernel
theorem dX32_atom_16 : decode cX32_atom 16 = .ok (.iload_n 3, 1) := by decide +kernel
theorem dX32_atom_17 : decode cX32_atom 17 = .ok (.invokestatic 127, 3) := by decide +kernel
theorem dX32_atom_20 : decode cX32_atom 20 = .ok (.ifCond .ne 5, 3) := by decide +kernel
theorem dX32_atom_23 : decode cX32_atom 23 = .ok (.iconst (-1), 1) := by decide +kernel
theorem dX32_atom_24 : decode cX32_atom 24 = .ok (.ireturn, 1) := by decide +kernel
theorem dX32_atom_25 : decode cX32_atom 25 = .ok (.aload_n 0, 1) := by decide +kernel
theorem dX32_atom_26 : decode cX32_atom 26 = .ok (.getfield 130, 3) := by decide +kernel
theorem dX32_atom_29 : decode cX32_atom 29 = .ok (.iconst 4, 1) := by decide +kernel
theorem dX32_atom_30 : decode cX32_atom 30 = .ok (.if_icmp .ne 6, 3) := by decide +kernel
theorem dX32_atom_33 : decode cX32_atom 33 = .ok (.bipush (-2), 2) := by decide +kernel
theorem dX32_atom_35 : decode cX32_atom 35 = .ok (.ireturn, 1) := by decide +kernel
theorem dX32_atom_36 : decode cX32_atom 36 = .ok (.aload_n 0, 1) := by decide +kernel
theorem dX32_atom_37 : decode cX32_atom 37 = .ok (.getfield 23, 3) := by decide +kernel
theorem dX32_atom_40 : decode cX32_atom 40 = .ok (.aload_n 0, 1) := by decide +kernel
theorem dX32_atom_41 : decode cX32_atom 41 = .ok (.getfield 130, 3) := by decide +kernel
theorem dX32_atom_44 : decode cX32_atom 44 = .ok (.new 21, 3) := by decide +kernel
theorem dX32_atom_47 : decode cX32_atom 47 = .ok (.dup, 1) := by decide +kernel
theorem dX32_atom_48 : decode cX32_atom 48 = .ok (.iload_n 1, 1) := by decide +kernel
theorem dX32_atom_49 : decode cX32_atom 49 = .ok (.iload_n 2, 1) := by decide +kernel
theorem dX32_atom_50 : decode cX32_atom 50 = .ok (.iload_n 3, 1) := by decide +kernel
theorem dX32_atom_51 : decode cX32_atom 51 = .ok (.invokespecial 133, 3) := by decide +kernel
theorem dX32_atom_54 : decode cX32_atom 54 = .ok (.aastore, 1) := by decide +kernel
theorem dX32_atom_55 : decode cX32_atom 55 = .ok (.aload_n 0, 1) := by decide +kernel
theorem dX32_atom_56 : decode cX32_atom 56 = .ok (.dup, 1) := by decide +kernel
theorem dX32_atom_57 : decode cX32_atom 57 = .ok (.getfield 130, 3) := by decide +kernel
theorem dX32_atom_60 : decode cX32_atom 60 = .ok (.iconst 1, 1) := by decide +kernel
theorem dX32_atom_61 : decode cX32_atom 61 = .ok (.iadd, 1) := by decide +kernel
theorem dX32_atom_62 : decode cX32_atom 62 = .ok (.putfield 130, 3) := by decide +kernel
theorem dX32_atom_65 : decode cX32_atom 65 = .ok (.aload_n 0, 1) := by decide +kernel
theorem dX32_atom_66 : decode cX32_atom 66 = .ok (.iconst 0, 1) := by decide +kernel
theorem dX32_atom_67 : decode cX32_atom 67 = .ok (.putfield 81, 3) := by decide +kernel
theorem dX32_atom_70 : decode cX32_atom 70 = .ok (.aload_n 0, 1) := by decide +kernel
theorem dX32_atom_71 : decode cX32_atom 71 = .ok (.getfield 130, 3) := by decide +kernel
theorem dX32_atom_74 : decode cX32_atom 74 = .ok (.ireturn, 1) := by decide +kernel
abbrev cX32_isPlace : ByteArray := prog_72_method_9_code
def yX32_isPlace : MethodName := ⟨RX32, "isPlace", "(I)Z"⟩
theorem dX32_isPlace_0 : decode cX32_isPlace 0 = .ok (.iload_n 0, 1) := by decide +kernel
theorem dX32_isPlace_1 : decode cX32_isPlace 1 = .ok (.bipush (-6), 2) := by decide +kernel
theorem dX32_isPlace_3 : decode cX32_isPlace 3 = .ok (.if_icmp .lt 13, 3) := by decide +kernel
theorem dX32_isPlace_6 : decode cX32_isPlace 6 = .ok (.iload_n 0, 1) := by decide +kernel
theorem dX32_isPlace_7 : decode cX32_isPlace 7 = .ok (.ldc 126, 2) := by decide +kernel
theorem dX32_isPlace_9 : decode cX32_isPlace 9 = .ok (.if_icmp .ge 7, 3) := by decide +kernel
theorem dX32_isPlace_12 : decode cX32_isPlace 12 = .ok (.iconst 1, 1) := by decide +kernel
theorem dX32_isPlace_13 : decode cX32_isPlace 13 = .ok (.goto 4, 3) := by decide +kernel
theorem dX32_isPlace_16 : decode cX32_isPlace 16 = .ok (.iconst 0, 1) := by decide +kernel
theorem dX32_isPlace_17 : decode cX32_isPlace 17 = .ok (.ireturn, 1) := by decide +kernel
abbrev cX32_span : ByteArray := prog_72_method_11_code
def yX32_span : MethodName := ⟨RX32, "span", "(III)I"⟩
theorem dX32_span_0 : decode cX32_span 0 = .ok (.iload_n 1, 1) := by decide +kernel
theorem dX32_span_1 : decode cX32_span 1 = .ok (.bipush 6, 2) := by decide +kernel
theorem dX32_span_3 : decode cX32_span 3 = .ok (.invokestatic 69, 3) := by decide +kernel
theorem dX32_span_6 : decode cX32_span 6 = .ok (.ifCond .ne 5, 3) := by decide +kernel
theorem dX32_span_9 : decode cX32_span 9 = .ok (.iconst (-1), 1) := by decide +kernel
theorem dX32_span_10 : decode cX32_span 10 = .ok (.ireturn, 1) := by decide +kernel
theorem dX32_span_11 : decode cX32_span 11 = .ok (.aload_n 0, 1) := by decide +kernel
theorem dX32_span_12 : decode cX32_span 12 = .ok (.getfield 136, 3) := by decide +kernel
theorem dX32_span_15 : decode cX32_span 15 = .ok (.iconst 4, 1) := by decide +kernel
theorem dX32_span_16 : decode cX32_span 16 = .ok (.if_icmp .ne 6, 3) := by decide +kernel
theorem dX32_span_19 : decode cX32_span 19 = .ok (.bipush (-2), 2) := by decide +kernel
theorem dX32_span_21 : decode cX32_span 21 = .ok (.ireturn, 1) := by decide +kernel
theorem dX32_span_22 : decode cX32_span 22 = .ok (.aload_n 0, 1) := by decide +kernel
theorem dX32_span_23 : decode cX32_span 23 = .ok (.getfield 27, 3) := by decide +kernel
theorem dX32_span_26 : decode cX32_span 26 = .ok (.aload_n 0, 1) := by decide +kernel
theorem dX32_span_27 : decode cX32_span 27 = .ok (.getfield 136, 3) := by decide +kernel
theorem dX32_span_30 : decode cX32_span 30 = .ok (.iload_n 1, 1) := by decide +kernel
theorem dX32_span_31 : decode cX32_span 31 = .ok (.iastore, 1) := by decide +kernel
theorem dX32_span_32 : decode cX32_span 32 = .ok (.aload_n 0, 1) := by decide +kernel
theorem dX32_span_33 : decode cX32_span 33 = .ok (.getfield 31, 3) := by decide +kernel
theorem dX32_span_36 : decode cX32_span 36 = .ok (.aload_n 0, 1) := by decide +kernel
theorem dX32_span_37 : decode cX32_span 37 = .ok (.getfield 136, 3) := by decide +kernel
theorem dX32_span_40 : decode cX32_span 40 = .ok (.iload_n 2, 1) := by decide +kernel
theorem dX32_span_41 : decode cX32_span 41 = .ok (.iastore, 1) := by decide +kernel
theorem dX32_span_42 : decode cX32_span 42 = .ok (.aload_n 0, 1) := by decide +kernel
theorem dX32_span_43 : decode cX32_span 43 = .ok (.getfield 34, 3) := by decide +kernel
theorem dX32_span_46 : decode cX32_span 46 = .ok (.aload_n 0, 1) := by decide +kernel
theorem dX32_span_47 : decode cX32_span 47 = .ok (.getfield 136, 3) := by decide +kernel
theorem dX32_span_50 : decode cX32_span 50 = .ok (.iload_n 3, 1) := by decide +kernel
theorem dX32_span_51 : decode cX32_span 51 = .ok (.iastore, 1) := by decide +kernel
theorem dX32_span_52 : decode cX32_span 52 = .ok (.aload_n 0, 1) := by decide +kernel
theorem dX32_span_53 : decode cX32_span 53 = .ok (.dup, 1) := by decide +kernel
theorem dX32_span_54 : decode cX32_span 54 = .ok (.getfield 136, 3) := by decide +kernel
theorem dX32_span_57 : decode cX32_span 57 = .ok (.iconst 1, 1) := by decide +kernel
theorem dX32_span_58 : decode cX32_span 58 = .ok (.iadd, 1) := by decide +kernel
theorem dX32_span_59 : decode cX32_span 59 = .ok (.putfield 136, 3) := by decide +kernel
theorem dX32_span_62 : decode cX32_span 62 = .ok (.aload_n 0, 1) := by decide +kernel
theorem dX32_span_63 : decode cX32_span 63 = .ok (.getfield 136, 3) := by decide +kernel
theorem dX32_span_66 : decode cX32_span 66 = .ok (.ireturn, 1) := by decide +kernel
abbrev cX32_clear : ByteArray := prog_72_method_12_code
def yX32_clear : MethodName := ⟨RX32, "clear", "()I"⟩
theorem dX32_clear_0 : decode cX32_clear 0 = .ok (.aload_n 0, 1) := by decide +kernel
theorem dX32_clear_1 : decode cX32_clear 1 = .ok (.getfield 130, 3) := by decide +kernel
theorem dX32_clear_4 : decode cX32_clear 4 = .ok (.istore_n 1, 1) := by decide +kernel
theorem dX32_clear_5 : decode cX32_clear 5 = .ok (.aload_n 0, 1) := by decide +kernel
theorem dX32_clear_6 : decode cX32_clear 6 = .ok (.iconst 0, 1) := by decide +kernel
theorem dX32_clear_7 : decode cX32_clear 7 = .ok (.putfield 130, 3) := by decide +kernel
theorem dX32_clear_10 : decode cX32_clear 10 = .ok (.aload_n 0, 1) := by decide +kernel
theorem dX32_clear_11 : decode cX32_clear 11 = .ok (.iconst 0, 1) := by decide +kernel
theorem dX32_clear_12 : decode cX32_clear 12 = .ok (.putfield 136, 3) := by decide +kernel
theorem dX32_clear_15 : decode cX32_clear 15 = .ok (.aload_n 0, 1) := by decide +kernel
theorem dX32_clear_16 : decode cX32_clear 16 = .ok (.iconst 0, 1) := by decide +kernel
theorem dX32_clear_17 : decode cX32_clear 17 = .ok (.putfield 81, 3) := by decide +kernel
theorem dX32_clear_20 : decode cX32_clear 20 = .ok (.iload_n 1, 1) := by decide +kernel
theorem dX32_clear_21 : decode cX32_clear 21 = .ok (.ireturn, 1) := by decide +kernel
abbrev cX32_unions : ByteArray := prog_72_method_21_code
def yX32_unions : MethodName := ⟨RX32, "unions", "()I"⟩
theorem dX32_unions_0 : decode cX32_unions 0 = .ok (.aload_n 0, 1) := by decide +kernel
theorem dX32_unions_1 : decode cX32_unions 1 = .ok (.invokevirtual 182, 3) := by decide +kernel
theorem dX32_unions_4 : decode cX32_unions 4 = .ok (.istore_n 1, 1) := by decide +kernel
theorem dX32_unions_5 : decode cX32_unions 5 = .ok (.iload_n 1, 1) := by decide +kernel
theorem dX32_unions_6 : decode cX32_unions 6 = .ok (.ifCond .ge 7, 3) := by decide +kernel
theorem dX32_unions_9 : decode cX32_unions 9 = .ok (.iload_n 1, 1) := by decide +kernel
theorem dX32_unions_10 : decode cX32_unions 10 = .ok (.goto 7, 3) := by decide +kernel
theorem dX32_unions_13 : decode cX32_unions 13 = .ok (.aload_n 0, 1) := by decide +kernel
theorem dX32_unions_14 : decode cX32_unions 14 = .ok (.getfield 139, 3) := by decide +kernel
theorem dX32_unions_17 : decode cX32_unions 17 = .ok (.ireturn, 1) := by decide +kernel
abbrev cX32_union : ByteArray := prog_72_method_22_code
def yX32_union : MethodName := ⟨RX32, "union", "(II)I"⟩
theorem dX32_union_0 : decode cX32_union 0 = .ok (.aload_n 0, 1) := by decide +kernel
theorem dX32_union_1 : decode cX32_union 1 = .ok (.invokevirtual 182, 3) := by decide +kernel
theorem dX32_union_4 : decode cX32_union 4 = .ok (.istore_n 3, 1) := by decide +kernel
theorem dX32_union_5 : decode cX32_union 5 = .ok (.iload_n 3, 1) := by decide +kernel
theorem dX32_union_6 : decode cX32_union 6 = .ok (.ifCond .ge 5, 3) := by decide +kernel
theorem dX32_union_9 : decode cX32_union 9 = .ok (.iload_n 3, 1) := by decide +kernel
theorem dX32_union_10 : decode cX32_union 10 = .ok (.ireturn, 1) := by decide +kernel
theorem dX32_union_11 : decode cX32_union 11 = .ok (.iload_n 1, 1) := by decide +kernel
theorem dX32_union_12 : decode cX32_union 12 = .ok (.aload_n 0, 1) := by decide +kernel
theorem dX32_union_13 : decode cX32_union 13 = .ok (.getfield 139, 3) := by decide +kernel
theorem dX32_union_16 : decode cX32_union 16 = .ok (.invokestatic 69, 3) := by decide +kernel
theorem dX32_union_19 : decode cX32_union 19 = .ok (.ifCond .eq 28, 3) := by decide +kernel
theorem dX32_union_22 : decode cX32_union 22 = .ok (.iload_n 2, 1) := by decide +kernel
theorem dX32_union_23 : decode cX32_union 23 = .ok (.bipush 9, 2) := by decide +kernel
theorem dX32_union_25 : decode cX32_union 25 = .ok (.invokestatic 69, 3) := by decide +kernel
theorem dX32_union_28 : decode cX32_union 28 = .ok (.ifCond .eq 19, 3) := by decide +kernel
theorem dX32_union_31 : decode cX32_union 31 = .ok (.iload_n 2, 1) := by decide +kernel
theorem dX32_union_32 : decode cX32_union 32 = .ok (.bipush 8, 2) := by decide +kernel
theorem dX32_union_34 : decode cX32_union 34 = .ok (.if_icmp .ge 15, 3) := by decide +kernel
theorem dX32_union_37 : decode cX32_union 37 = .ok (.iload_n 2, 1) := by decide +kernel
theorem dX32_union_38 : decode cX32_union 38 = .ok (.iconst 4, 1) := by decide +kernel
theorem dX32_union_39 : decode cX32_union 39 = .ok (.irem, 1) := by decide +kernel
theorem dX32_union_40 : decode cX32_union 40 = .ok (.aload_n 0, 1) := by decide +kernel
theorem dX32_union_41 : decode cX32_union 41 = .ok (.getfield 130, 3) := by decide +kernel
theorem dX32_union_44 : decode cX32_union 44 = .ok (.if_icmp .lt 5, 3) := by decide +kernel
theorem dX32_union_47 : decode cX32_union 47 = .ok (.iconst (-1), 1) := by decide +kernel
theorem dX32_union_48 : decode cX32_union 48 = .ok (.ireturn, 1) := by decide +kernel
theorem dX32_union_49 : decode cX32_union 49 = .ok (.iload_n 2, 1) := by decide +kernel
theorem dX32_union_50 : decode cX32_union 50 = .ok (.iconst 4, 1) := by decide +kernel
theorem dX32_union_51 : decode cX32_union 51 = .ok (.if_icmp .ge 17, 3) := by decide +kernel
theorem dX32_union_54 : decode cX32_union 54 = .ok (.aload_n 0, 1) := by decide +kernel
theorem dX32_union_55 : decode cX32_union 55 = .ok (.getfield 39, 3) := by decide +kernel
theorem dX32_union_58 : decode cX32_union 58 = .ok (.iload_n 1, 1) := by decide +kernel
theorem dX32_union_59 : decode cX32_union 59 = .ok (.aaload, 1) := by decide +kernel
theorem dX32_union_60 : decode cX32_union 60 = .ok (.getfield 171, 3) := by decide +kernel
theorem dX32_union_63 : decode cX32_union 63 = .ok (.iload_n 2, 1) := by decide +kernel
theorem dX32_union_64 : decode cX32_union 64 = .ok (.iaload, 1) := by decide +kernel
theorem dX32_union_65 : decode cX32_union 65 = .ok (.goto 34, 3) := by decide +kernel
theorem dX32_union_68 : decode cX32_union 68 = .ok (.iload_n 2, 1) := by decide +kernel
theorem dX32_union_69 : decode cX32_union 69 = .ok (.bipush 8, 2) := by decide +kernel
theorem dX32_union_71 : decode cX32_union 71 = .ok (.if_icmp .ge 19, 3) := by decide +kernel
theorem dX32_union_74 : decode cX32_union 74 = .ok (.aload_n 0, 1) := by decide +kernel
theorem dX32_union_75 : decode cX32_union 75 = .ok (.getfield 39, 3) := by decide +kernel
theorem dX32_union_78 : decode cX32_union 78 = .ok (.iload_n 1, 1) := by decide +kernel
theorem dX32_union_79 : decode cX32_union 79 = .ok (.aaload, 1) := by decide +kernel
theorem dX32_union_80 : decode cX32_union 80 = .ok (.getfield 176, 3) := by decide +kernel
theorem dX32_union_83 : decode cX32_union 83 = .ok (.iload_n 2, 1) := by decide +kernel
theorem dX32_union_84 : decode cX32_union 84 = .ok (.iconst 4, 1) := by decide +kernel
theorem dX32_union_85 : decode cX32_union 85 = .ok (.isub, 1) := by decide +kernel
theorem dX32_union_86 : decode cX32_union 86 = .ok (.iaload, 1) := by decide +kernel
theorem dX32_union_87 : decode cX32_union 87 = .ok (.goto 12, 3) := by decide +kernel
theorem dX32_union_90 : decode cX32_union 90 = .ok (.aload_n 0, 1) := by decide +kernel
theorem dX32_union_91 : decode cX32_union 91 = .ok (.getfield 39, 3) := by decide +kernel
theorem dX32_union_94 : decode cX32_union 94 = .ok (.iload_n 1, 1) := by decide +kernel
theorem dX32_union_95 : decode cX32_union 95 = .ok (.aaload, 1) := by decide +kernel
theorem dX32_union_96 : decode cX32_union 96 = .ok (.getfield 168, 3) := by decide +kernel
theorem dX32_union_99 : decode cX32_union 99 = .ok (.ireturn, 1) := by decide +kernel
abbrev cX32_estimate : ByteArray := prog_72_method_23_code
def yX32_estimate : MethodName := ⟨RX32, "estimate", "(I)I"⟩
theorem dX32_estimate_0 : decode cX32_estimate 0 = .ok (.aload_n 0, 1) := by decide +kernel
theorem dX32_estimate_1 : decode cX32_estimate 1 = .ok (.invokevirtual 182, 3) := by decide +kernel
theorem dX32_estimate_4 : decode cX32_estimate 4 = .ok (.istore_n 2, 1) := by decide +kernel
theorem dX32_estimate_5 : decode cX32_estimate 5 = .ok (.iload_n 2, 1) := by decide +kernel
theorem dX32_estimate_6 : decode cX32_estimate 6 = .ok (.ifCond .ge 5, 3) := by decide +kernel
theorem dX32_estimate_9 : decode cX32_estimate 9 = .ok (.iload_n 2, 1) := by decide +kernel
theorem dX32_estimate_10 : decode cX32_estimate 10 = .ok (.ireturn, 1) := by decide +kernel
theorem dX32_estimate_11 : decode cX32_estimate 11 = .ok (.iload_n 1, 1) := by decide +kernel
theorem dX32_estimate_12 : decode cX32_estimate 12 = .ok (.aload_n 0, 1) := by decide +kernel
theorem dX32_estimate_13 : decode cX32_estimate 13 = .ok (.getfield 139, 3) := by decide +kernel
theorem dX32_estimate_16 : decode cX32_estimate 16 = .ok (.invokestatic 69, 3) := by decide +kernel
theorem dX32_estimate_19 : decode cX32_estimate 19 = .ok (.ifCond .ne 5, 3) := by decide +kernel
theorem dX32_estimate_22 : decode cX32_estimate 22 = .ok (.iconst (-1), 1) := by decide +kernel
theorem dX32_estimate_23 : decode cX32_estimate 23 = .ok (.ireturn, 1) := by decide +kernel
theorem dX32_estimate_24 : decode cX32_estimate 24 = .ok (.iconst 1, 1) := by decide +kernel
theorem dX32_estimate_25 : decode cX32_estimate 25 = .ok (.istore_n 3, 1) := by decide +kernel
theorem dX32_estimate_26 : decode cX32_estimate 26 = .ok (.iconst 0, 1) := by decide +kernel
theorem dX32_estimate_27 : decode cX32_estimate 27 = .ok (.istore 4, 2) := by decide +kernel
theorem dX32_estimate_29 : decode cX32_estimate 29 = .ok (.iload 4, 2) := by decide +kernel
theorem dX32_estimate_31 : decode cX32_estimate 31 = .ok (.aload_n 0, 1) := by decide +kernel
theorem dX32_estimate_32 : decode cX32_estimate 32 = .ok (.getfield 130, 3) := by decide +kernel
theorem dX32_estimate_35 : decode cX32_estimate 35 = .ok (.if_icmp .ge 49, 3) := by decide +kernel
theorem dX32_estimate_38 : decode cX32_estimate 38 = .ok (.aload_n 0, 1) := by decide +kernel
theorem dX32_estimate_39 : decode cX32_estimate 39 = .ok (.getfield 39, 3) := by decide +kernel
theorem dX32_estimate_42 : decode cX32_estimate 42 = .ok (.iload_n 1, 1) := by decide +kernel
theorem dX32_estimate_43 : decode cX32_estimate 43 = .ok (.aaload, 1) := by decide +kernel
theorem dX32_estimate_44 : decode cX32_estimate 44 = .ok (.iload 4, 2) := by decide +kernel
theorem dX32_estimate_46 : decode cX32_estimate 46 = .ok (.invokestatic 186, 3) := by decide +kernel
theorem dX32_estimate_49 : decode cX32_estimate 49 = .ok (.ifCond .eq 29, 3) := by decide +kernel
theorem dX32_estimate_52 : decode cX32_estimate 52 = .ok (.iload_n 3, 1) := by decide +kernel
theorem dX32_estimate_53 : decode cX32_estimate 53 = .ok (.aload_n 0, 1) := by decide +kernel
theorem dX32_estimate_54 : decode cX32_estimate 54 = .ok (.getfield 17, 3) := by decide +kernel
theorem dX32_estimate_57 : decode cX32_estimate 57 = .ok (.aload_n 0, 1) := by decide +kernel
theorem dX32_estimate_58 : decode cX32_estimate 58 = .ok (.getfield 39, 3) := by decide +kernel
theorem dX32_estimate_61 : decode cX32_estimate 61 = .ok (.iload_n 1, 1) := by decide +kernel
theorem dX32_estimate_62 : decode cX32_estimate 62 = .ok (.aaload, 1) := by decide +kernel
theorem dX32_estimate_63 : decode cX32_estimate 63 = .ok (.getfield 171, 3) := by decide +kernel
theorem dX32_estimate_66 : decode cX32_estimate 66 = .ok (.iload 4, 2) := by decide +kernel
theorem dX32_estimate_68 : decode cX32_estimate 68 = .ok (.iaload, 1) := by decide +kernel
theorem dX32_estimate_69 : decode cX32_estimate 69 = .ok (.aaload, 1) := by decide +kernel
theorem dX32_estimate_70 : decode cX32_estimate 70 = .ok (.getfield 112, 3) := by decide +kernel
theorem dX32_estimate_73 : decode cX32_estimate 73 = .ok (.getfield 85, 3) := by decide +kernel
theorem dX32_estimate_76 : decode cX32_estimate 76 = .ok (.imul, 1) := by decide +kernel
theorem dX32_estimate_77 : decode cX32_estimate 77 = .ok (.istore_n 3, 1) := by decide +kernel
theorem dX32_estimate_78 : decode cX32_estimate 78 = .ok (.iinc 4 1, 3) := by decide +kernel
theorem dX32_estimate_81 : decode cX32_estimate 81 = .ok (.goto (-52), 3) := by decide +kernel
theorem dX32_estimate_84 : decode cX32_estimate 84 = .ok (.iload_n 3, 1) := by decide +kernel
theorem dX32_estimate_85 : decode cX32_estimate 85 = .ok (.ireturn, 1) := by decide +kernel
abbrev cX32_found : ByteArray := prog_72_method_34_code
def yX32_found : MethodName := ⟨RX32, "found", "(II)I"⟩
theorem dX32_found_0 : decode cX32_found 0 = .ok (.iload_n 1, 1) := by decide +kernel
theorem dX32_found_1 : decode cX32_found 1 = .ok (.aload_n 0, 1) := by decide +kernel
theorem dX32_found_2 : decode cX32_found 2 = .ok (.getfield 190, 3) := by decide +kernel
theorem dX32_found_5 : decode cX32_found 5 = .ok (.invokestatic 69, 3) := by decide +kernel
theorem dX32_found_8 : decode cX32_found 8 = .ok (.ifCond .eq 11, 3) := by decide +kernel
theorem dX32_found_11 : decode cX32_found 11 = .ok (.iload_n 2, 1) := by decide +kernel
theorem dX32_found_12 : decode cX32_found 12 = .ok (.iconst 2, 1) := by decide +kernel
theorem dX32_found_13 : decode cX32_found 13 = .ok (.invokestatic 69, 3) := by decide +kernel
theorem dX32_found_16 : decode cX32_found 16 = .ok (.ifCond .ne 7, 3) := by decide +kernel
theorem dX32_found_19 : decode cX32_found 19 = .ok (.iconst (-1), 1) := by decide +kernel
theorem dX32_found_20 : decode cX32_found 20 = .ok (.goto 22, 3) := by decide +kernel
theorem dX32_found_23 : decode cX32_found 23 = .ok (.iload_n 2, 1) := by decide +kernel
theorem dX32_found_24 : decode cX32_found 24 = .ok (.ifCond .ne 12, 3) := by decide +kernel
theorem dX32_found_27 : decode cX32_found 27 = .ok (.aload_n 0, 1) := by decide +kernel
theorem dX32_found_28 : decode cX32_found 28 = .ok (.getfield 58, 3) := by decide +kernel
theorem dX32_found_31 : decode cX32_found 31 = .ok (.iload_n 1, 1) := by decide +kernel
theorem dX32_found_32 : decode cX32_found 32 = .ok (.iaload, 1) := by decide +kernel
theorem dX32_found_33 : decode cX32_found 33 = .ok (.goto 9, 3) := by decide +kernel
theorem dX32_found_36 : decode cX32_found 36 = .ok (.aload_n 0, 1) := by decide +kernel
theorem dX32_found_37 : decode cX32_found 37 = .ok (.getfield 61, 3) := by decide +kernel
theorem dX32_found_40 : decode cX32_found 40 = .ok (.iload_n 1, 1) := by decide +kernel
theorem dX32_found_41 : decode cX32_found 41 = .ok (.iaload, 1) := by decide +kernel
theorem dX32_found_42 : decode cX32_found 42 = .ok (.ireturn, 1) := by decide +kernel
theorem in_X32 : ∀ w ∈ wsX320, w ∈ lw_all := lw_in wsX320 [1523, 1525, 1527, 1529, 1531, 1533, 1535, 1537, 1539, 1541, 1543, 1545, 1547, 1549, 1551, 1553, 1555, 1557, 1559, 1561, 1563, 1565, 1567, 1569] (by decide +kernel) (by decide +kernel)
def RX33 : String := "KnowHouse$VirtualRewrite$Table"
def TX33 : u_T := fun k => match k with
  | 0 => ("KnowHouse$VirtualRewrite$Table", "cells", "[I", true)
  | 1 => ("KnowHouse$VirtualRewrite$Table", "keys", "[Z", true)
  | _ => ("KnowHouse$VirtualRewrite$Table", "size", "I", false)
def tyX33 : Nat → FieldType := fun k => match k with
  | 0 => .array .int
  | 1 => .array .boolean
  | _ => .int
abbrev wsX330 : List Cond := u_ws RX33 TX33 3
theorem nmX33 : ∀ a, a < 3 → ∀ b, b < 3 → a ≠ b → (TX33 a).2.1 ≠ (TX33 b).2.1 := by decide +kernel
theorem tyX33_ok : ∀ k, k < 3 → parseFieldDescriptor (TX33 k).2.2.1 = some (tyX33 k) := by decide +kernel
abbrev cX33_init : ByteArray := prog_75_method_1_code
def yX33_init : MethodName := ⟨RX33, "<init>", "()V"⟩
theorem dX33_init_0 : decode cX33_init 0 = .ok (.aload_n 0, 1) := by decide +kernel
theorem dX33_init_1 : decode cX33_init 1 = .ok (.invokespecial 3, 3) := by decide +kernel
theorem dX33_init_4 : decode cX33_init 4 = .ok (.aload_n 0, 1) := by decide +kernel
theorem dX33_init_5 : decode cX33_init 5 = .ok (.bipush 60, 2) := by decide +kernel
theorem dX33_init_7 : decode cX33_init 7 = .ok (.newarray .int, 2) := by decide +kernel
theorem dX33_init_9 : decode cX33_init 9 = .ok (.putfield 9, 3) := by decide +kernel
theorem dX33_init_12 : decode cX33_init 12 = .ok (.aload_n 0, 1) := by decide +kernel
theorem dX33_init_13 : decode cX33_init 13 = .ok (.iconst 3, 1) := by decide +kernel
theorem dX33_init_14 : decode cX33_init 14 = .ok (.newarray .boolean, 2) := by decide +kernel
theorem dX33_init_16 : decode cX33_init 16 = .ok (.putfield 15, 3) := by decide +kernel
theorem dX33_init_19 : decode cX33_init 19 = .ok (.return_, 1) := by decide +kernel
abbrev cX33_cell : ByteArray := prog_75_method_2_code
def yX33_cell : MethodName := ⟨RX33, "cell", "(II)I"⟩
theorem dX33_cell_0 : decode cX33_cell 0 = .ok (.aload_n 0, 1) := by decide +kernel
theorem dX33_cell_1 : decode cX33_cell 1 = .ok (.getfield 9, 3) := by decide +kernel
theorem dX33_cell_4 : decode cX33_cell 4 = .ok (.iconst 3, 1) := by decide +kernel
theorem dX33_cell_5 : decode cX33_cell 5 = .ok (.iload_n 1, 1) := by decide +kernel
theorem dX33_cell_6 : decode cX33_cell 6 = .ok (.imul, 1) := by decide +kernel
theorem dX33_cell_7 : decode cX33_cell 7 = .ok (.iload_n 2, 1) := by decide +kernel
theorem dX33_cell_8 : decode cX33_cell 8 = .ok (.iadd, 1) := by decide +kernel
theorem dX33_cell_9 : decode cX33_cell 9 = .ok (.iaload, 1) := by decide +kernel
theorem dX33_cell_10 : decode cX33_cell 10 = .ok (.ireturn, 1) := by decide +kernel
abbrev cX33_repeats : ByteArray := prog_75_method_4_code
def yX33_repeats : MethodName := ⟨RX33, "repeats", "(I)Z"⟩
theorem dX33_repeats_0 : decode cX33_repeats 0 = .ok (.iconst 0, 1) := by decide +kernel
theorem dX33_repeats_1 : decode cX33_repeats 1 = .ok (.istore_n 2, 1) := by decide +kernel
theorem dX33_repeats_2 : decode cX33_repeats 2 = .ok (.iconst 1, 1) := by decide +kernel
theorem dX33_repeats_3 : decode cX33_repeats 3 = .ok (.istore_n 3, 1) := by decide +kernel
theorem dX33_repeats_4 : decode cX33_repeats 4 = .ok (.iload_n 3, 1) := by decide +kernel
theorem dX33_repeats_5 : decode cX33_repeats 5 = .ok (.aload_n 0, 1) := by decide +kernel
theorem dX33_repeats_6 : decode cX33_repeats 6 = .ok (.getfield 23, 3) := by decide +kernel
theorem dX33_repeats_9 : decode cX33_repeats 9 = .ok (.if_icmp .ge 34, 3) := by decide +kernel
theorem dX33_repeats_12 : decode cX33_repeats 12 = .ok (.iload_n 2, 1) := by decide +kernel
theorem dX33_repeats_13 : decode cX33_repeats 13 = .ok (.ifCond .ne 18, 3) := by decide +kernel
theorem dX33_repeats_16 : decode cX33_repeats 16 = .ok (.aload_n 0, 1) := by decide +kernel
theorem dX33_repeats_17 : decode cX33_repeats 17 = .ok (.iload_n 1, 1) := by decide +kernel
theorem dX33_repeats_18 : decode cX33_repeats 18 = .ok (.aload_n 0, 1) := by decide +kernel
theorem dX33_repeats_19 : decode cX33_repeats 19 = .ok (.iload_n 3, 1) := by decide +kernel
theorem dX33_repeats_20 : decode cX33_repeats 20 = .ok (.iload_n 1, 1) := by decide +kernel
theorem dX33_repeats_21 : decode cX33_repeats 21 = .ok (.invokevirtual 19, 3) := by decide +kernel
theorem dX33_repeats_24 : decode cX33_repeats 24 = .ok (.iload_n 3, 1) := by decide +kernel
theorem dX33_repeats_25 : decode cX33_repeats 25 = .ok (.invokevirtual 27, 3) := by decide +kernel
theorem dX33_repeats_28 : decode cX33_repeats 28 = .ok (.ifCond .eq 7, 3) := by decide +kernel
theorem dX33_repeats_31 : decode cX33_repeats 31 = .ok (.iconst 1, 1) := by decide +kernel
theorem dX33_repeats_32 : decode cX33_repeats 32 = .ok (.goto 4, 3) := by decide +kernel
theorem dX33_repeats_35 : decode cX33_repeats 35 = .ok (.iconst 0, 1) := by decide +kernel
theorem dX33_repeats_36 : decode cX33_repeats 36 = .ok (.istore_n 2, 1) := by decide +kernel
theorem dX33_repeats_37 : decode cX33_repeats 37 = .ok (.iinc 3 1, 3) := by decide +kernel
theorem dX33_repeats_40 : decode cX33_repeats 40 = .ok (.goto (-36), 3) := by decide +kernel
theorem dX33_repeats_43 : decode cX33_repeats 43 = .ok (.iload_n 2, 1) := by decide +kernel
theorem dX33_repeats_44 : decode cX33_repeats 44 = .ok (.ireturn, 1) := by decide +kernel
abbrev cX33_has : ByteArray := prog_75_method_3_code
def yX33_has : MethodName := ⟨RX33, "has", "(III)Z"⟩
theorem dX33_has_0 : decode cX33_has 0 = .ok (.iconst 0, 1) := by decide +kernel
theorem dX33_has_1 : decode cX33_has 1 = .ok (.istore 4, 2) := by decide +kernel
theorem dX33_has_3 : decode cX33_has 3 = .ok (.iconst 0, 1) := by decide +kernel
theorem dX33_has_4 : decode cX33_has 4 = .ok (.istore 5, 2) := by decide +kernel
theorem dX33_has_6 : decode cX33_has 6 = .ok (.iload 5, 2) := by decide +kernel
theorem dX33_has_8 : decode cX33_has 8 = .ok (.iload_n 3, 1) := by decide +kernel
theorem dX33_has_9 : decode cX33_has 9 = .ok (.if_icmp .ge 32, 3) := by decide +kernel
theorem dX33_has_12 : decode cX33_has 12 = .ok (.iload 4, 2) := by decide +kernel
theorem dX33_has_14 : decode cX33_has 14 = .ok (.ifCond .ne 14, 3) := by decide +kernel
theorem dX33_has_17 : decode cX33_has 17 = .ok (.aload_n 0, 1) := by decide +kernel
theorem dX33_has_18 : decode cX33_has 18 = .ok (.iload 5, 2) := by decide +kernel
theorem dX33_has_20 : decode cX33_has 20 = .ok (.iload_n 1, 1) := by decide +kernel
theorem dX33_has_21 : decode cX33_has 21 = .ok (.invokevirtual 19, 3) := by decide +kernel
theorem dX33_has_24 : decode cX33_has 24 = .ok (.iload_n 2, 1) := by decide +kernel
theorem dX33_has_25 : decode cX33_has 25 = .ok (.if_icmp .ne 7, 3) := by decide +kernel
theorem dX33_has_28 : decode cX33_has 28 = .ok (.iconst 1, 1) := by decide +kernel
theorem dX33_has_29 : decode cX33_has 29 = .ok (.goto 4, 3) := by decide +kernel
theorem dX33_has_32 : decode cX33_has 32 = .ok (.iconst 0, 1) := by decide +kernel
theorem dX33_has_33 : decode cX33_has 33 = .ok (.istore 4, 2) := by decide +kernel
theorem dX33_has_35 : decode cX33_has 35 = .ok (.iinc 5 1, 3) := by decide +kernel
theorem dX33_has_38 : decode cX33_has 38 = .ok (.goto (-32), 3) := by decide +kernel
theorem dX33_has_41 : decode cX33_has 41 = .ok (.iload 4, 2) := by decide +kernel
theorem dX33_has_43 : decode cX33_has 43 = .ok (.ireturn, 1) := by decide +kernel
abbrev cX33_drop : ByteArray := prog_75_method_5_code
def yX33_drop : MethodName := ⟨RX33, "drop", "(I)V"⟩
theorem dX33_drop_0 : decode cX33_drop 0 = .ok (.aload_n 0, 1) := by decide +kernel
theorem dX33_drop_1 : decode cX33_drop 1 = .ok (.dup, 1) := by decide +kernel
theorem dX33_drop_2 : decode cX33_drop 2 = .ok (.getfield 23, 3) := by decide +kernel
theorem dX33_drop_5 : decode cX33_drop 5 = .ok (.iconst 1, 1) := by decide +kernel
theorem dX33_drop_6 : decode cX33_drop 6 = .ok (.isub, 1) := by decide +kernel
theorem dX33_drop_7 : decode cX33_drop 7 = .ok (.putfield 23, 3) := by decide +kernel
theorem dX33_drop_10 : decode cX33_drop 10 = .ok (.iconst 3, 1) := by decide +kernel
theorem dX33_drop_11 : decode cX33_drop 11 = .ok (.iload_n 1, 1) := by decide +kernel
theorem dX33_drop_12 : decode cX33_drop 12 = .ok (.imul, 1) := by decide +kernel
theorem dX33_drop_13 : decode cX33_drop 13 = .ok (.istore_n 2, 1) := by decide +kernel
theorem dX33_drop_14 : decode cX33_drop 14 = .ok (.iload_n 2, 1) := by decide +kernel
theorem dX33_drop_15 : decode cX33_drop 15 = .ok (.iconst 3, 1) := by decide +kernel
theorem dX33_drop_16 : decode cX33_drop 16 = .ok (.aload_n 0, 1) := by decide +kernel
theorem dX33_drop_17 : decode cX33_drop 17 = .ok (.getfield 23, 3) := by decide +kernel
theorem dX33_drop_20 : decode cX33_drop 20 = .ok (.imul, 1) := by decide +kernel
theorem dX33_drop_21 : decode cX33_drop 21 = .ok (.if_icmp .ge 23, 3) := by decide +kernel
theorem dX33_drop_24 : decode cX33_drop 24 = .ok (.aload_n 0, 1) := by decide +kernel
theorem dX33_drop_25 : decode cX33_drop 25 = .ok (.getfield 9, 3) := by decide +kernel
theorem dX33_drop_28 : decode cX33_drop 28 = .ok (.iload_n 2, 1) := by decide +kernel
theorem dX33_drop_29 : decode cX33_drop 29 = .ok (.aload_n 0, 1) := by decide +kernel
theorem dX33_drop_30 : decode cX33_drop 30 = .ok (.getfield 9, 3) := by decide +kernel
theorem dX33_drop_33 : decode cX33_drop 33 = .ok (.iload_n 2, 1) := by decide +kernel
theorem dX33_drop_34 : decode cX33_drop 34 = .ok (.iconst 3, 1) := by decide +kernel
theorem dX33_drop_35 : decode cX33_drop 35 = .ok (.iadd, 1) := by decide +kernel
theorem dX33_drop_36 : decode cX33_drop 36 = .ok (.iaload, 1) := by decide +kernel
theorem dX33_drop_37 : decode cX33_drop 37 = .ok (.iastore, 1) := by decide +kernel
theorem dX33_drop_38 : decode cX33_drop 38 = .ok (.iinc 2 1, 3) := by decide +kernel
theorem dX33_drop_41 : decode cX33_drop 41 = .ok (.goto (-27), 3) := by decide +kernel
theorem dX33_drop_44 : decode cX33_drop 44 = .ok (.return_, 1) := by decide +kernel
theorem in_X33 : ∀ w ∈ wsX330, w ∈ lw_all := lw_in wsX330 [1475, 1477, 1479] (by decide +kernel) (by decide +kernel)
def RX34 : String := "KnowHouse$VirtualRewrite$Union"
def TX34 : u_T := fun k => match k with
  | 0 => ("KnowHouse$VirtualRewrite$Union", "mappings", "[I", true)
  | 1 => ("KnowHouse$VirtualRewrite$Union", "slots", "[I", true)
  | _ => ("KnowHouse$VirtualRewrite$Union", "slotCount", "I", false)
def tyX34 : Nat → FieldType := fun k => match k with
  | 0 => .array .int
  | 1 => .array .int
  | _ => .int
abbrev wsX340 : List Cond := u_ws RX34 TX34 3
theorem nmX34 : ∀ a, a < 3 → ∀ b, b < 3 → a ≠ b → (TX34 a).2.1 ≠ (TX34 b).2.1 := by decide +kernel
theorem tyX34_ok : ∀ k, k < 3 → parseFieldDescriptor (TX34 k).2.2.1 = some (tyX34 k) := by decide +kernel
abbrev cX34_init : ByteArray := prog_76_method_1_code
def yX34_init : MethodName := ⟨RX34, "<init>", "()V"⟩
theorem dX34_init_0 : decode cX34_init 0 = .ok (.aload_n 0, 1) := by decide +kernel
theorem dX34_init_1 : decode cX34_init 1 = .ok (.invokespecial 1, 3) := by decide +kernel
theorem dX34_init_4 : decode cX34_init 4 = .ok (.aload_n 0, 1) := by decide +kernel
theorem dX34_init_5 : decode cX34_init 5 = .ok (.iconst 4, 1) := by decide +kernel
theorem dX34_init_6 : decode cX34_init 6 = .ok (.newarray .int, 2) := by decide +kernel
theorem dX34_init_8 : decode cX34_init 8 = .ok (.putfield 7, 3) := by decide +kernel
theorem dX34_init_11 : decode cX34_init 11 = .ok (.aload_n 0, 1) := by decide +kernel
theorem dX34_init_12 : decode cX34_init 12 = .ok (.iconst 4, 1) := by decide +kernel
theorem dX34_init_13 : decode cX34_init 13 = .ok (.newarray .int, 2) := by decide +kernel
theorem dX34_init_15 : decode cX34_init 15 = .ok (.putfield 13, 3) := by decide +kernel
theorem dX34_init_18 : decode cX34_init 18 = .ok (.return_, 1) := by decide +kernel
theorem in_X34 : ∀ w ∈ wsX340, w ∈ lw_all := lw_in wsX340 [1492, 1494, 1496] (by decide +kernel) (by decide +kernel)
def RX81 : String := "KnowHouse$VirtualRewrite$Mapping"
def TX81 : u_T := fun k => match k with
  | 0 => ("KnowHouse$VirtualRewrite$Mapping", "table", "LKnowHouse$VirtualRewrite$Table;", true)
  | 1 => ("KnowHouse$VirtualRewrite$Mapping", "predicate", "I", true)
  | 2 => ("KnowHouse$VirtualRewrite$Mapping", "templates", "[I", true)
  | _ => ("KnowHouse$VirtualRewrite$Mapping", "columns", "[I", true)
def tyX81 : Nat → FieldType := fun k => match k with
  | 0 => .object "KnowHouse$VirtualRewrite$Table"
  | 1 => .int
  | 2 => .array .int
  | _ => .array .int
abbrev wsX810 : List Cond := u_ws RX81 TX81 4
theorem nmX81 : ∀ a, a < 4 → ∀ b, b < 4 → a ≠ b → (TX81 a).2.1 ≠ (TX81 b).2.1 := by decide +kernel
theorem tyX81_ok : ∀ k, k < 4 → parseFieldDescriptor (TX81 k).2.2.1 = some (tyX81 k) := by decide +kernel
abbrev cX81_code : ByteArray := prog_74_method_2_code
def yX81_code : MethodName := ⟨RX81, "code", "(II)I"⟩
theorem dX81_code_0 : decode cX81_code 0 = .ok (.sipush 10000, 3) := by decide +kernel
theorem dX81_code_3 : decode cX81_code 3 = .ok (.aload_n 0, 1) := by decide +kernel
theorem dX81_code_4 : decode cX81_code 4 = .ok (.getfield 9, 3) := by decide +kernel
theorem dX81_code_7 : decode cX81_code 7 = .ok (.iload_n 2, 1) := by decide +kernel
theorem dX81_code_8 : decode cX81_code 8 = .ok (.iaload, 1) := by decide +kernel
theorem dX81_code_9 : decode cX81_code 9 = .ok (.imul, 1) := by decide +kernel
theorem dX81_code_10 : decode cX81_code 10 = .ok (.aload_n 0, 1) := by decide +kernel
theorem dX81_code_11 : decode cX81_code 11 = .ok (.getfield 18, 3) := by decide +kernel
theorem dX81_code_14 : decode cX81_code 14 = .ok (.iload_n 1, 1) := by decide +kernel
theorem dX81_code_15 : decode cX81_code 15 = .ok (.aload_n 0, 1) := by decide +kernel
theorem dX81_code_16 : decode cX81_code 16 = .ok (.getfield 15, 3) := by decide +kernel
theorem dX81_code_19 : decode cX81_code 19 = .ok (.iload_n 2, 1) := by decide +kernel
theorem dX81_code_20 : decode cX81_code 20 = .ok (.iaload, 1) := by decide +kernel
theorem dX81_code_21 : decode cX81_code 21 = .ok (.invokevirtual 26, 3) := by decide +kernel
theorem dX81_code_24 : decode cX81_code 24 = .ok (.iadd, 1) := by decide +kernel
theorem dX81_code_25 : decode cX81_code 25 = .ok (.ireturn, 1) := by decide +kernel
abbrev cX81_init : ByteArray := prog_74_method_1_code
def yX81_init : MethodName := ⟨RX81, "<init>", "(LKnowHouse$VirtualRewrite$Table;I)V"⟩
theorem dX81_init_0 : decode cX81_init 0 = .ok (.aload_n 0, 1) := by decide +kernel
theorem dX81_init_1 : decode cX81_init 1 = .ok (.invokespecial 3, 3) := by decide +kernel
theorem dX81_init_4 : decode cX81_init 4 = .ok (.aload_n 0, 1) := by decide +kernel
theorem dX81_init_5 : decode cX81_init 5 = .ok (.iconst 2, 1) := by decide +kernel
theorem dX81_init_6 : decode cX81_init 6 = .ok (.newarray .int, 2) := by decide +kernel
theorem dX81_init_8 : decode cX81_init 8 = .ok (.putfield 9, 3) := by decide +kernel
theorem dX81_init_11 : decode cX81_init 11 = .ok (.aload_n 0, 1) := by decide +kernel
theorem dX81_init_12 : decode cX81_init 12 = .ok (.iconst 2, 1) := by decide +kernel
theorem dX81_init_13 : decode cX81_init 13 = .ok (.newarray .int, 2) := by decide +kernel
theorem dX81_init_15 : decode cX81_init 15 = .ok (.putfield 15, 3) := by decide +kernel
theorem dX81_init_18 : decode cX81_init 18 = .ok (.aload_n 0, 1) := by decide +kernel
theorem dX81_init_19 : decode cX81_init 19 = .ok (.aload_n 1, 1) := by decide +kernel
theorem dX81_init_20 : decode cX81_init 20 = .ok (.putfield 18, 3) := by decide +kernel
theorem dX81_init_23 : decode cX81_init 23 = .ok (.aload_n 0, 1) := by decide +kernel
theorem dX81_init_24 : decode cX81_init 24 = .ok (.iload_n 2, 1) := by decide +kernel
theorem dX81_init_25 : decode cX81_init 25 = .ok (.putfield 22, 3) := by decide +kernel
theorem dX81_init_28 : decode cX81_init 28 = .ok (.return_, 1) := by decide +kernel
theorem in_X81 : ∀ w ∈ wsX810, w ∈ lw_all := lw_in wsX810 [5246, 5248, 5250, 5252] (by decide +kernel) (by decide +kernel)
def RX82 : String := "KnowHouse$VirtualRewrite$Atom"
def TX82 : u_T := fun k => match k with
  | 0 => ("KnowHouse$VirtualRewrite$Atom", "predicate", "I", true)
  | _ => ("KnowHouse$VirtualRewrite$Atom", "places", "[I", true)
def tyX82 : Nat → FieldType := fun k => match k with
  | 0 => .int
  | _ => .array .int
abbrev wsX820 : List Cond := u_ws RX82 TX82 2
theorem nmX82 : ∀ a, a < 2 → ∀ b, b < 2 → a ≠ b → (TX82 a).2.1 ≠ (TX82 b).2.1 := by decide +kernel
theorem tyX82_ok : ∀ k, k < 2 → parseFieldDescriptor (TX82 k).2.2.1 = some (tyX82 k) := by decide +kernel
abbrev cX82_init : ByteArray := prog_73_method_1_code
def yX82_init : MethodName := ⟨RX82, "<init>", "(III)V"⟩
theorem dX82_init_0 : decode cX82_init 0 = .ok (.aload_n 0, 1) := by decide +kernel
theorem dX82_init_1 : decode cX82_init 1 = .ok (.invokespecial 1, 3) := by decide +kernel
theorem dX82_init_4 : decode cX82_init 4 = .ok (.aload_n 0, 1) := by decide +kernel
theorem dX82_init_5 : decode cX82_init 5 = .ok (.iconst 2, 1) := by decide +kernel
theorem dX82_init_6 : decode cX82_init 6 = .ok (.newarray .int, 2) := by decide +kernel
theorem dX82_init_8 : decode cX82_init 8 = .ok (.putfield 7, 3) := by decide +kernel
theorem dX82_init_11 : decode cX82_init 11 = .ok (.aload_n 0, 1) := by decide +kernel
theorem dX82_init_12 : decode cX82_init 12 = .ok (.iload_n 1, 1) := by decide +kernel
theorem dX82_init_13 : decode cX82_init 13 = .ok (.putfield 13, 3) := by decide +kernel
theorem dX82_init_16 : decode cX82_init 16 = .ok (.aload_n 0, 1) := by decide +kernel
theorem dX82_init_17 : decode cX82_init 17 = .ok (.getfield 7, 3) := by decide +kernel
theorem dX82_init_20 : decode cX82_init 20 = .ok (.iconst 0, 1) := by decide +kernel
theorem dX82_init_21 : decode cX82_init 21 = .ok (.iload_n 2, 1) := by decide +kernel
theorem dX82_init_22 : decode cX82_init 22 = .ok (.iastore, 1) := by decide +kernel
theorem dX82_init_23 : decode cX82_init 23 = .ok (.aload_n 0, 1) := by decide +kernel
theorem dX82_init_24 : decode cX82_init 24 = .ok (.getfield 7, 3) := by decide +kernel
theorem dX82_init_27 : decode cX82_init 27 = .ok (.iconst 1, 1) := by decide +kernel
theorem dX82_init_28 : decode cX82_init 28 = .ok (.iload_n 3, 1) := by decide +kernel
theorem dX82_init_29 : decode cX82_init 29 = .ok (.iastore, 1) := by decide +kernel
theorem dX82_init_30 : decode cX82_init 30 = .ok (.return_, 1) := by decide +kernel
theorem in_X82 : ∀ w ∈ wsX820, w ∈ lw_all := lw_in wsX820 [5280, 5282] (by decide +kernel) (by decide +kernel)
theorem q518 : (Jvm.Cond.initialized "KnowHouse$VirtualRewrite") ∈ lw_all := lw_g (lw_at lw_m1 40 rfl) rfl
theorem q519 : (Jvm.Cond.initialized "KnowHouse$VirtualRewrite$Table") ∈ lw_all := lw_g (lw_at lw_m1 41 rfl) rfl
theorem q520 : (Jvm.Cond.initialized "KnowHouse$VirtualRewrite$Union") ∈ lw_all := lw_g (lw_at lw_m1 42 rfl) rfl
theorem q589 : (Jvm.Cond.initialized "KnowHouse$VirtualRewrite$Mapping") ∈ lw_all := lw_g (lw_at lw_m1 111 rfl) rfl
theorem q590 : (Jvm.Cond.initialized "KnowHouse$VirtualRewrite$Atom") ∈ lw_all := lw_g (lw_at lw_m1 112 rfl) rfl
theorem q1455 : (Jvm.Cond.methodLink "KnowHouse$VirtualRewrite" (1 : Nat) ({ cls := "java/lang/Object", name := "<init>", desc := "()V" } : Jvm.MethodName)) ∈ lw_all := lw_g (lw_at lw_m5 17 rfl) rfl
theorem q1456 : (Jvm.Cond.classLink "KnowHouse$VirtualRewrite" (7 : Nat) "KnowHouse$VirtualRewrite$Table") ∈ lw_all := lw_g (lw_at lw_m5 18 rfl) rfl
theorem q1457 : (Jvm.Cond.arrayOver (Jvm.ClassFile.FieldType.object "KnowHouse$VirtualRewrite$Table")) ∈ lw_tbl := lw_at lw_m5 19 rfl
theorem q1458 : (Jvm.Cond.classLink "KnowHouse$VirtualRewrite" (15 : Nat) "KnowHouse$VirtualRewrite$Mapping") ∈ lw_all := lw_g (lw_at lw_m5 20 rfl) rfl
theorem q1459 : (Jvm.Cond.arrayOver (Jvm.ClassFile.FieldType.object "KnowHouse$VirtualRewrite$Mapping")) ∈ lw_tbl := lw_at lw_m5 21 rfl
theorem q1460 : (Jvm.Cond.classLink "KnowHouse$VirtualRewrite" (21 : Nat) "KnowHouse$VirtualRewrite$Atom") ∈ lw_all := lw_g (lw_at lw_m5 22 rfl) rfl
theorem q1461 : (Jvm.Cond.arrayOver (Jvm.ClassFile.FieldType.object "KnowHouse$VirtualRewrite$Atom")) ∈ lw_tbl := lw_at lw_m5 23 rfl
theorem q1462 : (Jvm.Cond.classLink "KnowHouse$VirtualRewrite" (37 : Nat) "KnowHouse$VirtualRewrite$Union") ∈ lw_all := lw_g (lw_at lw_m5 24 rfl) rfl
theorem q1463 : (Jvm.Cond.arrayOver (Jvm.ClassFile.FieldType.object "KnowHouse$VirtualRewrite$Union")) ∈ lw_tbl := lw_at lw_m5 25 rfl
theorem q1464 : (Jvm.Cond.instantiable "KnowHouse$VirtualRewrite$Table" (3 : Nat)) ∈ lw_all := lw_g (lw_at lw_m5 26 rfl) rfl
theorem q1465 : (Jvm.Cond.methodLinkNest "KnowHouse$VirtualRewrite" (67 : Nat) ({ cls := "KnowHouse$VirtualRewrite$Table", name := "<init>", desc := "()V" } : Jvm.MethodName) "KnowHouse") ∈ lw_tbl := lw_at lw_m5 27 rfl
theorem q1466 : (Jvm.Cond.instanceMethod ({ cls := "KnowHouse$VirtualRewrite$Table", name := "<init>", desc := "()V" } : Jvm.MethodName)) ∈ lw_all := lw_g (lw_at lw_m5 28 rfl) rfl
theorem q1467 : (Jvm.Cond.code ({ cls := "KnowHouse$VirtualRewrite$Table", name := "<init>", desc := "()V" } : Jvm.MethodName) prog_75_method_1_code (1 : Nat) (Option.none : Option Jvm.ClassFile.FieldType)) ∈ lw_all := lw_g (lw_at lw_m5 29 rfl) rfl
theorem q1468 : (Jvm.Cond.methodLink "KnowHouse$VirtualRewrite$Table" (3 : Nat) ({ cls := "java/lang/Object", name := "<init>", desc := "()V" } : Jvm.MethodName)) ∈ lw_all := lw_g (lw_at lw_m5 30 rfl) rfl
theorem q1469 : (Jvm.Cond.fieldLink "KnowHouse$VirtualRewrite$Table" (9 : Nat) "KnowHouse$VirtualRewrite$Table" "cells" "[I") ∈ lw_all := lw_g (lw_at lw_m5 31 rfl) rfl
theorem q1470 : (Jvm.Cond.fieldLinkNest "KnowHouse$VirtualRewrite" (93 : Nat) "KnowHouse$VirtualRewrite$Table" "cells" "[I" "KnowHouse") ∈ lw_tbl := lw_at lw_m5 32 rfl
theorem q1471 : (Jvm.Cond.fieldLink "KnowHouse$VirtualRewrite$Table" (15 : Nat) "KnowHouse$VirtualRewrite$Table" "keys" "[Z") ∈ lw_all := lw_g (lw_at lw_m5 33 rfl) rfl
theorem q1472 : (Jvm.Cond.fieldLinkNest "KnowHouse$VirtualRewrite" (73 : Nat) "KnowHouse$VirtualRewrite$Table" "keys" "[Z" "KnowHouse") ∈ lw_tbl := lw_at lw_m5 34 rfl
theorem q1473 : (Jvm.Cond.fieldLink "KnowHouse$VirtualRewrite$Table" (23 : Nat) "KnowHouse$VirtualRewrite$Table" "size" "I") ∈ lw_all := lw_g (lw_at lw_m5 35 rfl) rfl
theorem q1474 : (Jvm.Cond.fieldLinkNest "KnowHouse$VirtualRewrite" (85 : Nat) "KnowHouse$VirtualRewrite$Table" "size" "I" "KnowHouse") ∈ lw_tbl := lw_at lw_m5 36 rfl
theorem q1482 : (Jvm.Cond.instantiable "KnowHouse$VirtualRewrite$Union" (3 : Nat)) ∈ lw_all := lw_g (lw_at lw_m5 44 rfl) rfl
theorem q1483 : (Jvm.Cond.methodLinkNest "KnowHouse$VirtualRewrite" (68 : Nat) ({ cls := "KnowHouse$VirtualRewrite$Union", name := "<init>", desc := "()V" } : Jvm.MethodName) "KnowHouse") ∈ lw_tbl := lw_at lw_m5 45 rfl
theorem q1484 : (Jvm.Cond.instanceMethod ({ cls := "KnowHouse$VirtualRewrite$Union", name := "<init>", desc := "()V" } : Jvm.MethodName)) ∈ lw_all := lw_g (lw_at lw_m5 46 rfl) rfl
theorem q1485 : (Jvm.Cond.code ({ cls := "KnowHouse$VirtualRewrite$Union", name := "<init>", desc := "()V" } : Jvm.MethodName) prog_76_method_1_code (1 : Nat) (Option.none : Option Jvm.ClassFile.FieldType)) ∈ lw_all := lw_g (lw_at lw_m5 47 rfl) rfl
theorem q1486 : (Jvm.Cond.methodLink "KnowHouse$VirtualRewrite$Union" (1 : Nat) ({ cls := "java/lang/Object", name := "<init>", desc := "()V" } : Jvm.MethodName)) ∈ lw_all := lw_g (lw_at lw_m5 48 rfl) rfl
theorem q1487 : (Jvm.Cond.fieldLink "KnowHouse$VirtualRewrite$Union" (7 : Nat) "KnowHouse$VirtualRewrite$Union" "mappings" "[I") ∈ lw_all := lw_g (lw_at lw_m5 49 rfl) rfl
theorem q1488 : (Jvm.Cond.fieldLinkNest "KnowHouse$VirtualRewrite" (171 : Nat) "KnowHouse$VirtualRewrite$Union" "mappings" "[I" "KnowHouse") ∈ lw_tbl := lw_at lw_m5 50 rfl
theorem q1489 : (Jvm.Cond.fieldLink "KnowHouse$VirtualRewrite$Union" (13 : Nat) "KnowHouse$VirtualRewrite$Union" "slots" "[I") ∈ lw_all := lw_g (lw_at lw_m5 51 rfl) rfl
theorem q1490 : (Jvm.Cond.fieldLinkNest "KnowHouse$VirtualRewrite" (176 : Nat) "KnowHouse$VirtualRewrite$Union" "slots" "[I" "KnowHouse") ∈ lw_tbl := lw_at lw_m5 52 rfl
theorem q1491 : (Jvm.Cond.fieldLinkNest "KnowHouse$VirtualRewrite" (168 : Nat) "KnowHouse$VirtualRewrite$Union" "slotCount" "I" "KnowHouse") ∈ lw_tbl := lw_at lw_m5 53 rfl
theorem q1499 : (Jvm.Cond.fieldLink "KnowHouse$VirtualRewrite" (9 : Nat) "KnowHouse$VirtualRewrite" "tables" "[LKnowHouse$VirtualRewrite$Table;") ∈ lw_all := lw_g (lw_at lw_m5 61 rfl) rfl
theorem q1500 : (Jvm.Cond.fieldLink "KnowHouse$VirtualRewrite" (17 : Nat) "KnowHouse$VirtualRewrite" "mappings" "[LKnowHouse$VirtualRewrite$Mapping;") ∈ lw_all := lw_g (lw_at lw_m5 62 rfl) rfl
theorem q1501 : (Jvm.Cond.fieldLink "KnowHouse$VirtualRewrite" (100 : Nat) "KnowHouse$VirtualRewrite" "mappingCount" "I") ∈ lw_all := lw_g (lw_at lw_m5 63 rfl) rfl
theorem q1502 : (Jvm.Cond.fieldLink "KnowHouse$VirtualRewrite" (23 : Nat) "KnowHouse$VirtualRewrite" "atoms" "[LKnowHouse$VirtualRewrite$Atom;") ∈ lw_all := lw_g (lw_at lw_m5 64 rfl) rfl
theorem q1503 : (Jvm.Cond.fieldLink "KnowHouse$VirtualRewrite" (130 : Nat) "KnowHouse$VirtualRewrite" "atomCount" "I") ∈ lw_all := lw_g (lw_at lw_m5 65 rfl) rfl
theorem q1504 : (Jvm.Cond.fieldLink "KnowHouse$VirtualRewrite" (27 : Nat) "KnowHouse$VirtualRewrite" "spanOf" "[I") ∈ lw_all := lw_g (lw_at lw_m5 66 rfl) rfl
theorem q1505 : (Jvm.Cond.fieldLink "KnowHouse$VirtualRewrite" (31 : Nat) "KnowHouse$VirtualRewrite" "spanFrom" "[I") ∈ lw_all := lw_g (lw_at lw_m5 67 rfl) rfl
theorem q1506 : (Jvm.Cond.fieldLink "KnowHouse$VirtualRewrite" (34 : Nat) "KnowHouse$VirtualRewrite" "spanTo" "[I") ∈ lw_all := lw_g (lw_at lw_m5 68 rfl) rfl
theorem q1507 : (Jvm.Cond.fieldLink "KnowHouse$VirtualRewrite" (136 : Nat) "KnowHouse$VirtualRewrite" "spans" "I") ∈ lw_all := lw_g (lw_at lw_m5 69 rfl) rfl
theorem q1508 : (Jvm.Cond.fieldLink "KnowHouse$VirtualRewrite" (39 : Nat) "KnowHouse$VirtualRewrite" "unions" "[LKnowHouse$VirtualRewrite$Union;") ∈ lw_all := lw_g (lw_at lw_m5 70 rfl) rfl
theorem q1509 : (Jvm.Cond.fieldLink "KnowHouse$VirtualRewrite" (139 : Nat) "KnowHouse$VirtualRewrite" "unionCount" "I") ∈ lw_all := lw_g (lw_at lw_m5 71 rfl) rfl
theorem q1510 : (Jvm.Cond.fieldLink "KnowHouse$VirtualRewrite" (142 : Nat) "KnowHouse$VirtualRewrite" "large" "Z") ∈ lw_all := lw_g (lw_at lw_m5 72 rfl) rfl
theorem q1511 : (Jvm.Cond.fieldLink "KnowHouse$VirtualRewrite" (81 : Nat) "KnowHouse$VirtualRewrite" "known" "Z") ∈ lw_all := lw_g (lw_at lw_m5 73 rfl) rfl
theorem q1512 : (Jvm.Cond.fieldLink "KnowHouse$VirtualRewrite" (43 : Nat) "KnowHouse$VirtualRewrite" "chosen" "[I") ∈ lw_all := lw_g (lw_at lw_m5 74 rfl) rfl
theorem q1513 : (Jvm.Cond.fieldLink "KnowHouse$VirtualRewrite" (46 : Nat) "KnowHouse$VirtualRewrite" "kinds" "[I") ∈ lw_all := lw_g (lw_at lw_m5 75 rfl) rfl
theorem q1514 : (Jvm.Cond.fieldLink "KnowHouse$VirtualRewrite" (49 : Nat) "KnowHouse$VirtualRewrite" "given" "[I") ∈ lw_all := lw_g (lw_at lw_m5 76 rfl) rfl
theorem q1515 : (Jvm.Cond.fieldLink "KnowHouse$VirtualRewrite" (52 : Nat) "KnowHouse$VirtualRewrite" "rowOf" "[I") ∈ lw_all := lw_g (lw_at lw_m5 77 rfl) rfl
theorem q1516 : (Jvm.Cond.fieldLink "KnowHouse$VirtualRewrite" (55 : Nat) "KnowHouse$VirtualRewrite" "answers" "[I") ∈ lw_all := lw_g (lw_at lw_m5 78 rfl) rfl
theorem q1517 : (Jvm.Cond.fieldLink "KnowHouse$VirtualRewrite" (58 : Nat) "KnowHouse$VirtualRewrite" "foundBy" "[I") ∈ lw_all := lw_g (lw_at lw_m5 79 rfl) rfl
theorem q1518 : (Jvm.Cond.fieldLink "KnowHouse$VirtualRewrite" (61 : Nat) "KnowHouse$VirtualRewrite" "firstBy" "[I") ∈ lw_all := lw_g (lw_at lw_m5 80 rfl) rfl
theorem q1519 : (Jvm.Cond.fieldLink "KnowHouse$VirtualRewrite" (64 : Nat) "KnowHouse$VirtualRewrite" "lastBy" "[I") ∈ lw_all := lw_g (lw_at lw_m5 81 rfl) rfl
theorem q1520 : (Jvm.Cond.fieldLink "KnowHouse$VirtualRewrite" (190 : Nat) "KnowHouse$VirtualRewrite" "answerCount" "I") ∈ lw_all := lw_g (lw_at lw_m5 82 rfl) rfl
theorem q1521 : (Jvm.Cond.fieldLink "KnowHouse$VirtualRewrite" (193 : Nat) "KnowHouse$VirtualRewrite" "asked" "I") ∈ lw_all := lw_g (lw_at lw_m5 83 rfl) rfl
theorem q1522 : (Jvm.Cond.fieldLink "KnowHouse$VirtualRewrite" (196 : Nat) "KnowHouse$VirtualRewrite" "tooMany" "Z") ∈ lw_all := lw_g (lw_at lw_m5 84 rfl) rfl
theorem q3351 : (Jvm.Cond.methodLink "KnowHouse$VirtualRewrite" (182 : Nat) ({ cls := "KnowHouse$VirtualRewrite", name := "ready", desc := "()I" } : Jvm.MethodName)) ∈ lw_all := lw_g (lw_at lw_m12 233 rfl) rfl
theorem q3353 : (Jvm.Cond.instanceMethod ({ cls := "KnowHouse$VirtualRewrite", name := "ready", desc := "()I" } : Jvm.MethodName)) ∈ lw_all := lw_g (lw_at lw_m12 235 rfl) rfl
theorem q3354 : (Jvm.Cond.code ({ cls := "KnowHouse$VirtualRewrite", name := "ready", desc := "()I" } : Jvm.MethodName) prog_72_method_20_code (1 : Nat) (Option.some Jvm.ClassFile.FieldType.int)) ∈ lw_all := lw_g (lw_at lw_m12 236 rfl) rfl
theorem q3355 : (Jvm.Cond.methodLink "KnowHouse$VirtualRewrite" (179 : Nat) ({ cls := "KnowHouse$VirtualRewrite", name := "make", desc := "()V" } : Jvm.MethodName)) ∈ lw_all := lw_g (lw_at lw_m12 237 rfl) rfl
theorem q3357 : (Jvm.Cond.instanceMethod ({ cls := "KnowHouse$VirtualRewrite", name := "make", desc := "()V" } : Jvm.MethodName)) ∈ lw_all := lw_g (lw_at lw_m12 239 rfl) rfl
theorem q3358 : (Jvm.Cond.code ({ cls := "KnowHouse$VirtualRewrite", name := "make", desc := "()V" } : Jvm.MethodName) prog_72_method_13_code (2 : Nat) (Option.none : Option Jvm.ClassFile.FieldType)) ∈ lw_all := lw_g (lw_at lw_m13 0 rfl) rfl
theorem q3359 : (Jvm.Cond.methodLink "KnowHouse$VirtualRewrite" (145 : Nat) ({ cls := "KnowHouse$VirtualRewrite", name := "choose", desc := "(LKnowHouse$VirtualRewrite;I)V" } : Jvm.MethodName)) ∈ lw_all := lw_g (lw_at lw_m13 1 rfl) rfl
theorem q3360 : (Jvm.Cond.static ({ cls := "KnowHouse$VirtualRewrite", name := "choose", desc := "(LKnowHouse$VirtualRewrite;I)V" } : Jvm.MethodName)) ∈ lw_all := lw_g (lw_at lw_m13 2 rfl) rfl
theorem q3361 : (Jvm.Cond.code ({ cls := "KnowHouse$VirtualRewrite", name := "choose", desc := "(LKnowHouse$VirtualRewrite;I)V" } : Jvm.MethodName) prog_72_method_14_code (6 : Nat) (Option.none : Option Jvm.ClassFile.FieldType)) ∈ lw_all := lw_g (lw_at lw_m13 3 rfl) rfl
theorem q3362 : (Jvm.Cond.methodLink "KnowHouse$VirtualRewrite" (149 : Nat) ({ cls := "KnowHouse$VirtualRewrite", name := "keep", desc := "()V" } : Jvm.MethodName)) ∈ lw_all := lw_g (lw_at lw_m13 4 rfl) rfl
theorem q3364 : (Jvm.Cond.instanceMethod ({ cls := "KnowHouse$VirtualRewrite", name := "keep", desc := "()V" } : Jvm.MethodName)) ∈ lw_all := lw_g (lw_at lw_m13 6 rfl) rfl
theorem q3365 : (Jvm.Cond.code ({ cls := "KnowHouse$VirtualRewrite", name := "keep", desc := "()V" } : Jvm.MethodName) prog_72_method_18_code (4 : Nat) (Option.none : Option Jvm.ClassFile.FieldType)) ∈ lw_all := lw_g (lw_at lw_m13 7 rfl) rfl
theorem q3366 : (Jvm.Cond.methodLink "KnowHouse$VirtualRewrite" (173 : Nat) ({ cls := "KnowHouse$VirtualRewrite", name := "isOneRow", desc := "(II)Z" } : Jvm.MethodName)) ∈ lw_all := lw_g (lw_at lw_m13 8 rfl) rfl
theorem q3368 : (Jvm.Cond.instanceMethod ({ cls := "KnowHouse$VirtualRewrite", name := "isOneRow", desc := "(II)Z" } : Jvm.MethodName)) ∈ lw_all := lw_g (lw_at lw_m13 10 rfl) rfl
theorem q3369 : (Jvm.Cond.code ({ cls := "KnowHouse$VirtualRewrite", name := "isOneRow", desc := "(II)Z" } : Jvm.MethodName) prog_72_method_19_code (8 : Nat) (Option.some Jvm.ClassFile.FieldType.boolean)) ∈ lw_all := lw_g (lw_at lw_m13 11 rfl) rfl
theorem q3370 : (Jvm.Cond.methodLink "KnowHouse$VirtualRewrite" (155 : Nat) ({ cls := "KnowHouse$VirtualRewrite", name := "kindAt", desc := "(I)I" } : Jvm.MethodName)) ∈ lw_all := lw_g (lw_at lw_m13 12 rfl) rfl
theorem q3372 : (Jvm.Cond.instanceMethod ({ cls := "KnowHouse$VirtualRewrite", name := "kindAt", desc := "(I)I" } : Jvm.MethodName)) ∈ lw_all := lw_g (lw_at lw_m13 14 rfl) rfl
theorem q3373 : (Jvm.Cond.code ({ cls := "KnowHouse$VirtualRewrite", name := "kindAt", desc := "(I)I" } : Jvm.MethodName) prog_72_method_15_code (2 : Nat) (Option.some Jvm.ClassFile.FieldType.int)) ∈ lw_all := lw_g (lw_at lw_m13 15 rfl) rfl
theorem q3374 : (Jvm.Cond.methodLink "KnowHouse$VirtualRewrite" (160 : Nat) ({ cls := "KnowHouse$VirtualRewrite", name := "fits", desc := "(LKnowHouse$VirtualRewrite$Atom;I)Z" } : Jvm.MethodName)) ∈ lw_all := lw_g (lw_at lw_m13 16 rfl) rfl
theorem q3376 : (Jvm.Cond.instanceMethod ({ cls := "KnowHouse$VirtualRewrite", name := "fits", desc := "(LKnowHouse$VirtualRewrite$Atom;I)Z" } : Jvm.MethodName)) ∈ lw_all := lw_g (lw_at lw_m13 18 rfl) rfl
theorem q3377 : (Jvm.Cond.code ({ cls := "KnowHouse$VirtualRewrite", name := "fits", desc := "(LKnowHouse$VirtualRewrite$Atom;I)Z" } : Jvm.MethodName) prog_72_method_17_code (8 : Nat) (Option.some Jvm.ClassFile.FieldType.boolean)) ∈ lw_all := lw_g (lw_at lw_m13 19 rfl) rfl
theorem q3378 : (Jvm.Cond.methodLink "KnowHouse$VirtualRewrite" (164 : Nat) ({ cls := "KnowHouse$VirtualRewrite", name := "setKind", desc := "(II)V" } : Jvm.MethodName)) ∈ lw_all := lw_g (lw_at lw_m13 20 rfl) rfl
theorem q3380 : (Jvm.Cond.instanceMethod ({ cls := "KnowHouse$VirtualRewrite", name := "setKind", desc := "(II)V" } : Jvm.MethodName)) ∈ lw_all := lw_g (lw_at lw_m13 22 rfl) rfl
theorem q3381 : (Jvm.Cond.code ({ cls := "KnowHouse$VirtualRewrite", name := "setKind", desc := "(II)V" } : Jvm.MethodName) prog_72_method_16_code (3 : Nat) (Option.none : Option Jvm.ClassFile.FieldType)) ∈ lw_all := lw_g (lw_at lw_m13 23 rfl) rfl
theorem q3382 : (Jvm.Cond.methodLink "KnowHouse$VirtualRewrite" (199 : Nat) ({ cls := "KnowHouse$VirtualRewrite", name := "give", desc := "(LKnowHouse$VirtualRewrite;II)V" } : Jvm.MethodName)) ∈ lw_all := lw_g (lw_at lw_m13 24 rfl) rfl
theorem q3383 : (Jvm.Cond.static ({ cls := "KnowHouse$VirtualRewrite", name := "give", desc := "(LKnowHouse$VirtualRewrite;II)V" } : Jvm.MethodName)) ∈ lw_all := lw_g (lw_at lw_m13 25 rfl) rfl
theorem q3384 : (Jvm.Cond.code ({ cls := "KnowHouse$VirtualRewrite", name := "give", desc := "(LKnowHouse$VirtualRewrite;II)V" } : Jvm.MethodName) prog_72_method_26_code (12 : Nat) (Option.none : Option Jvm.ClassFile.FieldType)) ∈ lw_all := lw_g (lw_at lw_m13 26 rfl) rfl
theorem q3385 : (Jvm.Cond.methodLink "KnowHouse$VirtualRewrite" (203 : Nat) ({ cls := "KnowHouse$VirtualRewrite", name := "note", desc := "(I)V" } : Jvm.MethodName)) ∈ lw_all := lw_g (lw_at lw_m13 27 rfl) rfl
theorem q3387 : (Jvm.Cond.instanceMethod ({ cls := "KnowHouse$VirtualRewrite", name := "note", desc := "(I)V" } : Jvm.MethodName)) ∈ lw_all := lw_g (lw_at lw_m13 29 rfl) rfl
theorem q3388 : (Jvm.Cond.code ({ cls := "KnowHouse$VirtualRewrite", name := "note", desc := "(I)V" } : Jvm.MethodName) prog_72_method_31_code (3 : Nat) (Option.none : Option Jvm.ClassFile.FieldType)) ∈ lw_all := lw_g (lw_at lw_m13 30 rfl) rfl
theorem q3389 : (Jvm.Cond.methodLink "KnowHouse$VirtualRewrite" (220 : Nat) ({ cls := "KnowHouse$VirtualRewrite", name := "compare", desc := "(I)I" } : Jvm.MethodName)) ∈ lw_all := lw_g (lw_at lw_m13 31 rfl) rfl
theorem q3391 : (Jvm.Cond.instanceMethod ({ cls := "KnowHouse$VirtualRewrite", name := "compare", desc := "(I)I" } : Jvm.MethodName)) ∈ lw_all := lw_g (lw_at lw_m13 33 rfl) rfl
theorem q3392 : (Jvm.Cond.code ({ cls := "KnowHouse$VirtualRewrite", name := "compare", desc := "(I)I" } : Jvm.MethodName) prog_72_method_30_code (4 : Nat) (Option.some Jvm.ClassFile.FieldType.int)) ∈ lw_all := lw_g (lw_at lw_m13 34 rfl) rfl
theorem q3393 : (Jvm.Cond.methodLink "KnowHouse$VirtualRewrite" (215 : Nat) ({ cls := "java/lang/Integer", name := "compare", desc := "(II)I" } : Jvm.MethodName)) ∈ lw_all := lw_g (lw_at lw_m13 35 rfl) rfl
theorem q3394 : (Jvm.Cond.methodLink "KnowHouse$VirtualRewrite" (222 : Nat) ({ cls := "KnowHouse$VirtualRewrite", name := "open", desc := "(I)V" } : Jvm.MethodName)) ∈ lw_all := lw_g (lw_at lw_m13 36 rfl) rfl
theorem q3396 : (Jvm.Cond.instanceMethod ({ cls := "KnowHouse$VirtualRewrite", name := "open", desc := "(I)V" } : Jvm.MethodName)) ∈ lw_all := lw_g (lw_at lw_m13 38 rfl) rfl
theorem q3397 : (Jvm.Cond.code ({ cls := "KnowHouse$VirtualRewrite", name := "open", desc := "(I)V" } : Jvm.MethodName) prog_72_method_32_code (4 : Nat) (Option.none : Option Jvm.ClassFile.FieldType)) ∈ lw_all := lw_g (lw_at lw_m13 39 rfl) rfl
theorem q3398 : (Jvm.Cond.methodLink "KnowHouse$VirtualRewrite" (186 : Nat) ({ cls := "KnowHouse$VirtualRewrite", name := "isFirstOfSlot", desc := "(LKnowHouse$VirtualRewrite$Union;I)Z" } : Jvm.MethodName)) ∈ lw_all := lw_g (lw_at lw_m13 40 rfl) rfl
theorem q3399 : (Jvm.Cond.static ({ cls := "KnowHouse$VirtualRewrite", name := "isFirstOfSlot", desc := "(LKnowHouse$VirtualRewrite$Union;I)Z" } : Jvm.MethodName)) ∈ lw_all := lw_g (lw_at lw_m13 41 rfl) rfl
theorem q3400 : (Jvm.Cond.code ({ cls := "KnowHouse$VirtualRewrite", name := "isFirstOfSlot", desc := "(LKnowHouse$VirtualRewrite$Union;I)Z" } : Jvm.MethodName) prog_72_method_24_code (4 : Nat) (Option.some Jvm.ClassFile.FieldType.boolean)) ∈ lw_all := lw_g (lw_at lw_m13 42 rfl) rfl
theorem q3401 : (Jvm.Cond.methodLink "KnowHouse$VirtualRewrite" (206 : Nat) ({ cls := "KnowHouse$VirtualRewrite", name := "givenAt", desc := "(I)I" } : Jvm.MethodName)) ∈ lw_all := lw_g (lw_at lw_m13 43 rfl) rfl
theorem q3403 : (Jvm.Cond.instanceMethod ({ cls := "KnowHouse$VirtualRewrite", name := "givenAt", desc := "(I)I" } : Jvm.MethodName)) ∈ lw_all := lw_g (lw_at lw_m13 45 rfl) rfl
theorem q3404 : (Jvm.Cond.code ({ cls := "KnowHouse$VirtualRewrite", name := "givenAt", desc := "(I)I" } : Jvm.MethodName) prog_72_method_27_code (2 : Nat) (Option.some Jvm.ClassFile.FieldType.int)) ∈ lw_all := lw_g (lw_at lw_m13 46 rfl) rfl
theorem q3405 : (Jvm.Cond.methodLink "KnowHouse$VirtualRewrite" (119 : Nat) ({ cls := "KnowHouse$VirtualRewrite$Mapping", name := "code", desc := "(II)I" } : Jvm.MethodName)) ∈ lw_all := lw_g (lw_at lw_m13 47 rfl) rfl
theorem q3406 : (Jvm.Cond.instanceMethod ({ cls := "KnowHouse$VirtualRewrite$Mapping", name := "code", desc := "(II)I" } : Jvm.MethodName)) ∈ lw_all := lw_g (lw_at lw_m13 48 rfl) rfl
theorem q3407 : (Jvm.Cond.selects "KnowHouse$VirtualRewrite$Mapping" ({ cls := "KnowHouse$VirtualRewrite$Mapping", name := "code", desc := "(II)I" } : Jvm.MethodName) ({ cls := "KnowHouse$VirtualRewrite$Mapping", name := "code", desc := "(II)I" } : Jvm.MethodName)) ∈ lw_all := lw_g (lw_at lw_m13 49 rfl) rfl
theorem q3408 : (Jvm.Cond.code ({ cls := "KnowHouse$VirtualRewrite$Mapping", name := "code", desc := "(II)I" } : Jvm.MethodName) prog_74_method_2_code (3 : Nat) (Option.some Jvm.ClassFile.FieldType.int)) ∈ lw_all := lw_g (lw_at lw_m13 50 rfl) rfl
theorem q3409 : (Jvm.Cond.methodLink "KnowHouse$VirtualRewrite$Mapping" (26 : Nat) ({ cls := "KnowHouse$VirtualRewrite$Table", name := "cell", desc := "(II)I" } : Jvm.MethodName)) ∈ lw_all := lw_g (lw_at lw_m13 51 rfl) rfl
theorem q3410 : (Jvm.Cond.instanceMethod ({ cls := "KnowHouse$VirtualRewrite$Table", name := "cell", desc := "(II)I" } : Jvm.MethodName)) ∈ lw_all := lw_g (lw_at lw_m13 52 rfl) rfl
theorem q3411 : (Jvm.Cond.selects "KnowHouse$VirtualRewrite$Table" ({ cls := "KnowHouse$VirtualRewrite$Table", name := "cell", desc := "(II)I" } : Jvm.MethodName) ({ cls := "KnowHouse$VirtualRewrite$Table", name := "cell", desc := "(II)I" } : Jvm.MethodName)) ∈ lw_all := lw_g (lw_at lw_m13 53 rfl) rfl
theorem q3412 : (Jvm.Cond.code ({ cls := "KnowHouse$VirtualRewrite$Table", name := "cell", desc := "(II)I" } : Jvm.MethodName) prog_75_method_2_code (3 : Nat) (Option.some Jvm.ClassFile.FieldType.int)) ∈ lw_all := lw_g (lw_at lw_m13 54 rfl) rfl
theorem q3413 : (Jvm.Cond.methodLink "KnowHouse$VirtualRewrite" (209 : Nat) ({ cls := "KnowHouse$VirtualRewrite", name := "takes", desc := "(II)Z" } : Jvm.MethodName)) ∈ lw_all := lw_g (lw_at lw_m13 55 rfl) rfl
theorem q3415 : (Jvm.Cond.instanceMethod ({ cls := "KnowHouse$VirtualRewrite", name := "takes", desc := "(II)Z" } : Jvm.MethodName)) ∈ lw_all := lw_g (lw_at lw_m13 57 rfl) rfl
theorem q3416 : (Jvm.Cond.code ({ cls := "KnowHouse$VirtualRewrite", name := "takes", desc := "(II)Z" } : Jvm.MethodName) prog_72_method_29_code (6 : Nat) (Option.some Jvm.ClassFile.FieldType.boolean)) ∈ lw_all := lw_g (lw_at lw_m13 58 rfl) rfl
theorem q3417 : (Jvm.Cond.methodLink "KnowHouse$VirtualRewrite" (212 : Nat) ({ cls := "KnowHouse$VirtualRewrite", name := "setGiven", desc := "(II)V" } : Jvm.MethodName)) ∈ lw_all := lw_g (lw_at lw_m13 59 rfl) rfl
theorem q3419 : (Jvm.Cond.instanceMethod ({ cls := "KnowHouse$VirtualRewrite", name := "setGiven", desc := "(II)V" } : Jvm.MethodName)) ∈ lw_all := lw_g (lw_at lw_m13 61 rfl) rfl
theorem q3420 : (Jvm.Cond.code ({ cls := "KnowHouse$VirtualRewrite", name := "setGiven", desc := "(II)V" } : Jvm.MethodName) prog_72_method_28_code (3 : Nat) (Option.none : Option Jvm.ClassFile.FieldType)) ∈ lw_all := lw_g (lw_at lw_m13 62 rfl) rfl
theorem q3425 : (Jvm.Cond.methodLink "KnowHouse$VirtualRewrite" (69 : Nat) ({ cls := "KnowHouse$VirtualRewrite", name := "isIn", desc := "(II)Z" } : Jvm.MethodName)) ∈ lw_all := lw_g (lw_at lw_m13 67 rfl) rfl
theorem q3426 : (Jvm.Cond.static ({ cls := "KnowHouse$VirtualRewrite", name := "isIn", desc := "(II)Z" } : Jvm.MethodName)) ∈ lw_all := lw_g (lw_at lw_m13 68 rfl) rfl
theorem q3427 : (Jvm.Cond.code ({ cls := "KnowHouse$VirtualRewrite", name := "isIn", desc := "(II)Z" } : Jvm.MethodName) prog_72_method_2_code (2 : Nat) (Option.some Jvm.ClassFile.FieldType.boolean)) ∈ lw_all := lw_g (lw_at lw_m13 69 rfl) rfl
theorem q3428 : (Jvm.Cond.classLink "KnowHouse$VirtualRewrite" (225 : Nat) "java/lang/IllegalStateException") ∈ lw_all := lw_g (lw_at lw_m13 70 rfl) rfl
theorem q3429 : (Jvm.Cond.methodLink "KnowHouse$VirtualRewrite" (227 : Nat) ({ cls := "java/lang/IllegalStateException", name := "<init>", desc := "()V" } : Jvm.MethodName)) ∈ lw_all := lw_g (lw_at lw_m13 71 rfl) rfl
theorem q5207 : (Jvm.Cond.methodLink "KnowHouse$VirtualRewrite" (77 : Nat) ({ cls := "KnowHouse$VirtualRewrite$Table", name := "repeats", desc := "(I)Z" } : Jvm.MethodName)) ∈ lw_all := lw_g (lw_at lw_m20 169 rfl) rfl
theorem q5208 : (Jvm.Cond.instanceMethod ({ cls := "KnowHouse$VirtualRewrite$Table", name := "repeats", desc := "(I)Z" } : Jvm.MethodName)) ∈ lw_all := lw_g (lw_at lw_m20 170 rfl) rfl
theorem q5209 : (Jvm.Cond.selects "KnowHouse$VirtualRewrite$Table" ({ cls := "KnowHouse$VirtualRewrite$Table", name := "repeats", desc := "(I)Z" } : Jvm.MethodName) ({ cls := "KnowHouse$VirtualRewrite$Table", name := "repeats", desc := "(I)Z" } : Jvm.MethodName)) ∈ lw_all := lw_g (lw_at lw_m20 171 rfl) rfl
theorem q5210 : (Jvm.Cond.code ({ cls := "KnowHouse$VirtualRewrite$Table", name := "repeats", desc := "(I)Z" } : Jvm.MethodName) prog_75_method_4_code (4 : Nat) (Option.some Jvm.ClassFile.FieldType.boolean)) ∈ lw_all := lw_g (lw_at lw_m20 172 rfl) rfl
theorem q5211 : (Jvm.Cond.methodLink "KnowHouse$VirtualRewrite$Table" (19 : Nat) ({ cls := "KnowHouse$VirtualRewrite$Table", name := "cell", desc := "(II)I" } : Jvm.MethodName)) ∈ lw_all := lw_g (lw_at lw_m20 173 rfl) rfl
theorem q5212 : (Jvm.Cond.methodLink "KnowHouse$VirtualRewrite$Table" (27 : Nat) ({ cls := "KnowHouse$VirtualRewrite$Table", name := "has", desc := "(III)Z" } : Jvm.MethodName)) ∈ lw_all := lw_g (lw_at lw_m20 174 rfl) rfl
theorem q5213 : (Jvm.Cond.instanceMethod ({ cls := "KnowHouse$VirtualRewrite$Table", name := "has", desc := "(III)Z" } : Jvm.MethodName)) ∈ lw_all := lw_g (lw_at lw_m20 175 rfl) rfl
theorem q5214 : (Jvm.Cond.selects "KnowHouse$VirtualRewrite$Table" ({ cls := "KnowHouse$VirtualRewrite$Table", name := "has", desc := "(III)Z" } : Jvm.MethodName) ({ cls := "KnowHouse$VirtualRewrite$Table", name := "has", desc := "(III)Z" } : Jvm.MethodName)) ∈ lw_all := lw_g (lw_at lw_m20 176 rfl) rfl
theorem q5215 : (Jvm.Cond.code ({ cls := "KnowHouse$VirtualRewrite$Table", name := "has", desc := "(III)Z" } : Jvm.MethodName) prog_75_method_3_code (6 : Nat) (Option.some Jvm.ClassFile.FieldType.boolean)) ∈ lw_all := lw_g (lw_at lw_m20 177 rfl) rfl
theorem q5220 : (Jvm.Cond.methodLink "KnowHouse$VirtualRewrite" (89 : Nat) ({ cls := "KnowHouse$VirtualRewrite$Table", name := "has", desc := "(III)Z" } : Jvm.MethodName)) ∈ lw_all := lw_g (lw_at lw_m20 182 rfl) rfl
theorem q5225 : (Jvm.Cond.methodLink "KnowHouse$VirtualRewrite" (96 : Nat) ({ cls := "KnowHouse$VirtualRewrite$Table", name := "drop", desc := "(I)V" } : Jvm.MethodName)) ∈ lw_all := lw_g (lw_at lw_m20 187 rfl) rfl
theorem q5226 : (Jvm.Cond.instanceMethod ({ cls := "KnowHouse$VirtualRewrite$Table", name := "drop", desc := "(I)V" } : Jvm.MethodName)) ∈ lw_all := lw_g (lw_at lw_m20 188 rfl) rfl
theorem q5227 : (Jvm.Cond.selects "KnowHouse$VirtualRewrite$Table" ({ cls := "KnowHouse$VirtualRewrite$Table", name := "drop", desc := "(I)V" } : Jvm.MethodName) ({ cls := "KnowHouse$VirtualRewrite$Table", name := "drop", desc := "(I)V" } : Jvm.MethodName)) ∈ lw_all := lw_g (lw_at lw_m20 189 rfl) rfl
theorem q5228 : (Jvm.Cond.code ({ cls := "KnowHouse$VirtualRewrite$Table", name := "drop", desc := "(I)V" } : Jvm.MethodName) prog_75_method_5_code (3 : Nat) (Option.none : Option Jvm.ClassFile.FieldType)) ∈ lw_all := lw_g (lw_at lw_m20 190 rfl) rfl
theorem q5233 : (Jvm.Cond.instantiable "KnowHouse$VirtualRewrite$Mapping" (4 : Nat)) ∈ lw_all := lw_g (lw_at lw_m20 195 rfl) rfl
theorem q5234 : (Jvm.Cond.methodLink "KnowHouse$VirtualRewrite" (103 : Nat) ({ cls := "KnowHouse$VirtualRewrite$Mapping", name := "<init>", desc := "(LKnowHouse$VirtualRewrite$Table;I)V" } : Jvm.MethodName)) ∈ lw_all := lw_g (lw_at lw_m20 196 rfl) rfl
theorem q5235 : (Jvm.Cond.instanceMethod ({ cls := "KnowHouse$VirtualRewrite$Mapping", name := "<init>", desc := "(LKnowHouse$VirtualRewrite$Table;I)V" } : Jvm.MethodName)) ∈ lw_all := lw_g (lw_at lw_m20 197 rfl) rfl
theorem q5236 : (Jvm.Cond.code ({ cls := "KnowHouse$VirtualRewrite$Mapping", name := "<init>", desc := "(LKnowHouse$VirtualRewrite$Table;I)V" } : Jvm.MethodName) prog_74_method_1_code (3 : Nat) (Option.none : Option Jvm.ClassFile.FieldType)) ∈ lw_all := lw_g (lw_at lw_m20 198 rfl) rfl
theorem q5237 : (Jvm.Cond.methodLink "KnowHouse$VirtualRewrite$Mapping" (3 : Nat) ({ cls := "java/lang/Object", name := "<init>", desc := "()V" } : Jvm.MethodName)) ∈ lw_all := lw_g (lw_at lw_m20 199 rfl) rfl
theorem q5238 : (Jvm.Cond.fieldLink "KnowHouse$VirtualRewrite$Mapping" (18 : Nat) "KnowHouse$VirtualRewrite$Mapping" "table" "LKnowHouse$VirtualRewrite$Table;") ∈ lw_all := lw_g (lw_at lw_m20 200 rfl) rfl
theorem q5239 : (Jvm.Cond.fieldLinkNest "KnowHouse$VirtualRewrite" (112 : Nat) "KnowHouse$VirtualRewrite$Mapping" "table" "LKnowHouse$VirtualRewrite$Table;" "KnowHouse") ∈ lw_tbl := lw_at lw_m20 201 rfl
theorem q5240 : (Jvm.Cond.fieldLink "KnowHouse$VirtualRewrite$Mapping" (22 : Nat) "KnowHouse$VirtualRewrite$Mapping" "predicate" "I") ∈ lw_all := lw_g (lw_at lw_m20 202 rfl) rfl
theorem q5241 : (Jvm.Cond.fieldLinkNest "KnowHouse$VirtualRewrite" (116 : Nat) "KnowHouse$VirtualRewrite$Mapping" "predicate" "I" "KnowHouse") ∈ lw_tbl := lw_at lw_m20 203 rfl
theorem q5242 : (Jvm.Cond.fieldLink "KnowHouse$VirtualRewrite$Mapping" (9 : Nat) "KnowHouse$VirtualRewrite$Mapping" "templates" "[I") ∈ lw_all := lw_g (lw_at lw_m20 204 rfl) rfl
theorem q5243 : (Jvm.Cond.fieldLinkNest "KnowHouse$VirtualRewrite" (106 : Nat) "KnowHouse$VirtualRewrite$Mapping" "templates" "[I" "KnowHouse") ∈ lw_tbl := lw_at lw_m20 205 rfl
theorem q5244 : (Jvm.Cond.fieldLink "KnowHouse$VirtualRewrite$Mapping" (15 : Nat) "KnowHouse$VirtualRewrite$Mapping" "columns" "[I") ∈ lw_all := lw_g (lw_at lw_m20 206 rfl) rfl
theorem q5245 : (Jvm.Cond.fieldLinkNest "KnowHouse$VirtualRewrite" (109 : Nat) "KnowHouse$VirtualRewrite$Mapping" "columns" "[I" "KnowHouse") ∈ lw_tbl := lw_at lw_m20 207 rfl
theorem q5259 : (Jvm.Cond.methodLink "KnowHouse$VirtualRewrite" (123 : Nat) ({ cls := "KnowHouse$VirtualRewrite", name := "isSaid", desc := "(II)Z" } : Jvm.MethodName)) ∈ lw_all := lw_g (lw_at lw_m20 221 rfl) rfl
theorem q5261 : (Jvm.Cond.instanceMethod ({ cls := "KnowHouse$VirtualRewrite", name := "isSaid", desc := "(II)Z" } : Jvm.MethodName)) ∈ lw_all := lw_g (lw_at lw_m20 223 rfl) rfl
theorem q5262 : (Jvm.Cond.code ({ cls := "KnowHouse$VirtualRewrite", name := "isSaid", desc := "(II)Z" } : Jvm.MethodName) prog_72_method_7_code (9 : Nat) (Option.some Jvm.ClassFile.FieldType.boolean)) ∈ lw_all := lw_g (lw_at lw_m20 224 rfl) rfl
theorem q5267 : (Jvm.Cond.methodLink "KnowHouse$VirtualRewrite" (127 : Nat) ({ cls := "KnowHouse$VirtualRewrite", name := "isPlace", desc := "(I)Z" } : Jvm.MethodName)) ∈ lw_all := lw_g (lw_at lw_m20 229 rfl) rfl
theorem q5268 : (Jvm.Cond.static ({ cls := "KnowHouse$VirtualRewrite", name := "isPlace", desc := "(I)Z" } : Jvm.MethodName)) ∈ lw_all := lw_g (lw_at lw_m20 230 rfl) rfl
theorem q5269 : (Jvm.Cond.code ({ cls := "KnowHouse$VirtualRewrite", name := "isPlace", desc := "(I)Z" } : Jvm.MethodName) prog_72_method_9_code (1 : Nat) (Option.some Jvm.ClassFile.FieldType.boolean)) ∈ lw_all := lw_g (lw_at lw_m20 231 rfl) rfl
theorem q5270 : (Jvm.Cond.constant "KnowHouse$VirtualRewrite" (126 : Nat) (60000 : Int32)) ∈ lw_all := lw_g (lw_at lw_m20 232 rfl) rfl
theorem q5271 : (Jvm.Cond.instantiable "KnowHouse$VirtualRewrite$Atom" (2 : Nat)) ∈ lw_all := lw_g (lw_at lw_m20 233 rfl) rfl
theorem q5272 : (Jvm.Cond.methodLink "KnowHouse$VirtualRewrite" (133 : Nat) ({ cls := "KnowHouse$VirtualRewrite$Atom", name := "<init>", desc := "(III)V" } : Jvm.MethodName)) ∈ lw_all := lw_g (lw_at lw_m20 234 rfl) rfl
theorem q5273 : (Jvm.Cond.instanceMethod ({ cls := "KnowHouse$VirtualRewrite$Atom", name := "<init>", desc := "(III)V" } : Jvm.MethodName)) ∈ lw_all := lw_g (lw_at lw_m20 235 rfl) rfl
theorem q5274 : (Jvm.Cond.code ({ cls := "KnowHouse$VirtualRewrite$Atom", name := "<init>", desc := "(III)V" } : Jvm.MethodName) prog_73_method_1_code (4 : Nat) (Option.none : Option Jvm.ClassFile.FieldType)) ∈ lw_all := lw_g (lw_at lw_m20 236 rfl) rfl
theorem q5275 : (Jvm.Cond.methodLink "KnowHouse$VirtualRewrite$Atom" (1 : Nat) ({ cls := "java/lang/Object", name := "<init>", desc := "()V" } : Jvm.MethodName)) ∈ lw_all := lw_g (lw_at lw_m20 237 rfl) rfl
theorem q5276 : (Jvm.Cond.fieldLink "KnowHouse$VirtualRewrite$Atom" (13 : Nat) "KnowHouse$VirtualRewrite$Atom" "predicate" "I") ∈ lw_all := lw_g (lw_at lw_m20 238 rfl) rfl
theorem q5277 : (Jvm.Cond.fieldLinkNest "KnowHouse$VirtualRewrite" (159 : Nat) "KnowHouse$VirtualRewrite$Atom" "predicate" "I" "KnowHouse") ∈ lw_tbl := lw_at lw_m20 239 rfl
theorem q5278 : (Jvm.Cond.fieldLink "KnowHouse$VirtualRewrite$Atom" (7 : Nat) "KnowHouse$VirtualRewrite$Atom" "places" "[I") ∈ lw_all := lw_g (lw_at lw_m21 0 rfl) rfl
theorem q5279 : (Jvm.Cond.fieldLinkNest "KnowHouse$VirtualRewrite" (152 : Nat) "KnowHouse$VirtualRewrite$Atom" "places" "[I" "KnowHouse") ∈ lw_tbl := lw_at lw_m21 1 rfl
theorem hVRX33_init : yX33_init.cls ≠ "java/lang/invoke/MethodHandle" ∧ yX33_init.cls ≠ "java/lang/invoke/VarHandle" ∧ (parseMethodDescriptor yX33_init.desc).map (fun d => d.parameters.length) = some 0 := by decide +kernel
theorem hVRX34_init : yX34_init.cls ≠ "java/lang/invoke/MethodHandle" ∧ yX34_init.cls ≠ "java/lang/invoke/VarHandle" ∧ (parseMethodDescriptor yX34_init.desc).map (fun d => d.parameters.length) = some 0 := by decide +kernel
theorem hVRX32_isOneRow : yX32_isOneRow.cls ≠ "java/lang/invoke/MethodHandle" ∧ yX32_isOneRow.cls ≠ "java/lang/invoke/VarHandle" ∧ (parseMethodDescriptor yX32_isOneRow.desc).map (fun d => d.parameters.length) = some 2 := by decide +kernel
theorem hVRX32_kindAt : yX32_kindAt.cls ≠ "java/lang/invoke/MethodHandle" ∧ yX32_kindAt.cls ≠ "java/lang/invoke/VarHandle" ∧ (parseMethodDescriptor yX32_kindAt.desc).map (fun d => d.parameters.length) = some 1 := by decide +kernel
theorem hVRX32_setKind : yX32_setKind.cls ≠ "java/lang/invoke/MethodHandle" ∧ yX32_setKind.cls ≠ "java/lang/invoke/VarHandle" ∧ (parseMethodDescriptor yX32_setKind.desc).map (fun d => d.parameters.length) = some 2 := by decide +kernel
theorem hVRX32_keep : yX32_keep.cls ≠ "java/lang/invoke/MethodHandle" ∧ yX32_keep.cls ≠ "java/lang/invoke/VarHandle" ∧ (parseMethodDescriptor yX32_keep.desc).map (fun d => d.parameters.length) = some 0 := by decide +kernel
theorem hVRX32_fits : yX32_fits.cls ≠ "java/lang/invoke/MethodHandle" ∧ yX32_fits.cls ≠ "java/lang/invoke/VarHandle" ∧ (parseMethodDescriptor yX32_fits.desc).map (fun d => d.parameters.length) = some 2 := by decide +kernel
theorem hVRX32_choose : yX32_choose.cls ≠ "java/lang/invoke/MethodHandle" ∧ yX32_choose.cls ≠ "java/lang/invoke/VarHandle" ∧ (parseMethodDescriptor yX32_choose.desc).map (fun d => d.parameters.length) = some 2 := by decide +kernel
theorem hVRX32_make : yX32_make.cls ≠ "java/lang/invoke/MethodHandle" ∧ yX32_make.cls ≠ "java/lang/invoke/VarHandle" ∧ (parseMethodDescriptor yX32_make.desc).map (fun d => d.parameters.length) = some 0 := by decide +kernel
theorem hVRJ3_compare : yJ3_compare.cls ≠ "java/lang/invoke/MethodHandle" ∧ yJ3_compare.cls ≠ "java/lang/invoke/VarHandle" ∧ (parseMethodDescriptor yJ3_compare.desc).map (fun d => d.parameters.length) = some 2 := by decide +kernel
theorem hVRX32_compare : yX32_compare.cls ≠ "java/lang/invoke/MethodHandle" ∧ yX32_compare.cls ≠ "java/lang/invoke/VarHandle" ∧ (parseMethodDescriptor yX32_compare.desc).map (fun d => d.parameters.length) = some 1 := by decide +kernel
theorem hVRX32_open : yX32_open.cls ≠ "java/lang/invoke/MethodHandle" ∧ yX32_open.cls ≠ "java/lang/invoke/VarHandle" ∧ (parseMethodDescriptor yX32_open.desc).map (fun d => d.parameters.length) = some 1 := by decide +kernel
theorem hVRX33_cell : yX33_cell.cls ≠ "java/lang/invoke/MethodHandle" ∧ yX33_cell.cls ≠ "java/lang/invoke/VarHandle" ∧ (parseMethodDescriptor yX33_cell.desc).map (fun d => d.parameters.length) = some 2 := by decide +kernel
theorem hVRX32_note : yX32_note.cls ≠ "java/lang/invoke/MethodHandle" ∧ yX32_note.cls ≠ "java/lang/invoke/VarHandle" ∧ (parseMethodDescriptor yX32_note.desc).map (fun d => d.parameters.length) = some 1 := by decide +kernel
theorem hVRX32_isFirstOfSlot : yX32_isFirstOfSlot.cls ≠ "java/lang/invoke/MethodHandle" ∧ yX32_isFirstOfSlot.cls ≠ "java/lang/invoke/VarHandle" ∧ (parseMethodDescriptor yX32_isFirstOfSlot.desc).map (fun d => d.parameters.length) = some 2 := by decide +kernel
theorem hVRX32_givenAt : yX32_givenAt.cls ≠ "java/lang/invoke/MethodHandle" ∧ yX32_givenAt.cls ≠ "java/lang/invoke/VarHandle" ∧ (parseMethodDescriptor yX32_givenAt.desc).map (fun d => d.parameters.length) = some 1 := by decide +kernel
theorem hVRX81_code : yX81_code.cls ≠ "java/lang/invoke/MethodHandle" ∧ yX81_code.cls ≠ "java/lang/invoke/VarHandle" ∧ (parseMethodDescriptor yX81_code.desc).map (fun d => d.parameters.length) = some 2 := by decide +kernel
theorem hVRX32_takes : yX32_takes.cls ≠ "java/lang/invoke/MethodHandle" ∧ yX32_takes.cls ≠ "java/lang/invoke/VarHandle" ∧ (parseMethodDescriptor yX32_takes.desc).map (fun d => d.parameters.length) = some 2 := by decide +kernel
theorem hVRX32_give : yX32_give.cls ≠ "java/lang/invoke/MethodHandle" ∧ yX32_give.cls ≠ "java/lang/invoke/VarHandle" ∧ (parseMethodDescriptor yX32_give.desc).map (fun d => d.parameters.length) = some 3 := by decide +kernel
theorem hVRX32_setGiven : yX32_setGiven.cls ≠ "java/lang/invoke/MethodHandle" ∧ yX32_setGiven.cls ≠ "java/lang/invoke/VarHandle" ∧ (parseMethodDescriptor yX32_setGiven.desc).map (fun d => d.parameters.length) = some 2 := by decide +kernel
theorem hVRX32_ready : yX32_ready.cls ≠ "java/lang/invoke/MethodHandle" ∧ yX32_ready.cls ≠ "java/lang/invoke/VarHandle" ∧ (parseMethodDescriptor yX32_ready.desc).map (fun d => d.parameters.length) = some 0 := by decide +kernel
theorem hVRX32_isIn : yX32_isIn.cls ≠ "java/lang/invoke/MethodHandle" ∧ yX32_isIn.cls ≠ "java/lang/invoke/VarHandle" ∧ (parseMethodDescriptor yX32_isIn.desc).map (fun d => d.parameters.length) = some 2 := by decide +kernel
theorem hVRX33_has : yX33_has.cls ≠ "java/lang/invoke/MethodHandle" ∧ yX33_has.cls ≠ "java/lang/invoke/VarHandle" ∧ (parseMethodDescriptor yX33_has.desc).map (fun d => d.parameters.length) = some 3 := by decide +kernel
theorem hVRX33_repeats : yX33_repeats.cls ≠ "java/lang/invoke/MethodHandle" ∧ yX33_repeats.cls ≠ "java/lang/invoke/VarHandle" ∧ (parseMethodDescriptor yX33_repeats.desc).map (fun d => d.parameters.length) = some 1 := by decide +kernel
theorem hVRX33_drop : yX33_drop.cls ≠ "java/lang/invoke/MethodHandle" ∧ yX33_drop.cls ≠ "java/lang/invoke/VarHandle" ∧ (parseMethodDescriptor yX33_drop.desc).map (fun d => d.parameters.length) = some 1 := by decide +kernel
theorem hVRX81_init : yX81_init.cls ≠ "java/lang/invoke/MethodHandle" ∧ yX81_init.cls ≠ "java/lang/invoke/VarHandle" ∧ (parseMethodDescriptor yX81_init.desc).map (fun d => d.parameters.length) = some 2 := by decide +kernel
theorem hVRX32_isSaid : yX32_isSaid.cls ≠ "java/lang/invoke/MethodHandle" ∧ yX32_isSaid.cls ≠ "java/lang/invoke/VarHandle" ∧ (parseMethodDescriptor yX32_isSaid.desc).map (fun d => d.parameters.length) = some 2 := by decide +kernel
theorem hVRX32_isPlace : yX32_isPlace.cls ≠ "java/lang/invoke/MethodHandle" ∧ yX32_isPlace.cls ≠ "java/lang/invoke/VarHandle" ∧ (parseMethodDescriptor yX32_isPlace.desc).map (fun d => d.parameters.length) = some 1 := by decide +kernel
theorem hVRX82_init : yX82_init.cls ≠ "java/lang/invoke/MethodHandle" ∧ yX82_init.cls ≠ "java/lang/invoke/VarHandle" ∧ (parseMethodDescriptor yX82_init.desc).map (fun d => d.parameters.length) = some 3 := by decide +kernel
def cVR (ci : Nat → Nat) (d : Nat → ClassId) (kd : Nat → Nat) (an : Nat → Nat) (ai : Nat → Nat → Int32) (al : Nat → Nat → Int64) (ar : Nat → Nat → Option Nat) (mX32_tables : Nat → Option Nat) (mX32_mappings : Nat → Option Nat) (mX32_mappingCount : Nat → Int32) (mX32_atoms : Nat → Option Nat) (mX32_atomCount : Nat → Int32) (mX32_spanOf : Nat → Option Nat) (mX32_spanFrom : Nat → Option Nat) (mX32_spanTo : Nat → Option Nat) (mX32_spans : Nat → Int32) (mX32_unions : Nat → Option Nat) (mX32_unionCount : Nat → Int32) (mX32_large : Nat → Int32) (mX32_known : Nat → Int32) (mX32_chosen : Nat → Option Nat) (mX32_kinds : Nat → Option Nat) (mX32_given : Nat → Option Nat) (mX32_rowOf : Nat → Option Nat) (mX32_answers : Nat → Option Nat) (mX32_foundBy : Nat → Option Nat) (mX32_firstBy : Nat → Option Nat) (mX32_lastBy : Nat → Option Nat) (mX32_answerCount : Nat → Int32) (mX32_asked : Nat → Int32) (mX32_tooMany : Nat → Int32) (mX33_cells : Nat → Option Nat) (mX33_keys : Nat → Option Nat) (mX33_size : Nat → Int32) (mX34_mappings : Nat → Option Nat) (mX34_slots : Nat → Option Nat) (mX34_slotCount : Nat → Int32) (mX81_table : Nat → Option Nat) (mX81_predicate : Nat → Int32) (mX81_templates : Nat → Option Nat) (mX81_columns : Nat → Option Nat) (mX82_predicate : Nat → Int32) (mX82_places : Nat → Option Nat) : Nat → va_E := fun a => match kd a with
  | 1 => .inr (ci 0, [va_rf (mX32_tables a), va_rf (mX32_mappings a), .int (mX32_mappingCount a), va_rf (mX32_atoms a), .int (mX32_atomCount a), va_rf (mX32_spanOf a), va_rf (mX32_spanFrom a), va_rf (mX32_spanTo a), .int (mX32_spans a), va_rf (mX32_unions a), .int (mX32_unionCount a), .int (mX32_large a), .int (mX32_known a), va_rf (mX32_chosen a), va_rf (mX32_kinds a), va_rf (mX32_given a), va_rf (mX32_rowOf a), va_rf (mX32_answers a), va_rf (mX32_foundBy a), va_rf (mX32_firstBy a), va_rf (mX32_lastBy a), .int (mX32_answerCount a), .int (mX32_asked a), .int (mX32_tooMany a)])
  | 2 => .inr (ci 1, [va_rf (mX33_cells a), va_rf (mX33_keys a), .int (mX33_size a)])
  | 3 => .inr (ci 2, [va_rf (mX34_mappings a), va_rf (mX34_slots a), .int (mX34_slotCount a)])
  | 4 => .inr (ci 3, [va_rf (mX81_table a), .int (mX81_predicate a), va_rf (mX81_templates a), va_rf (mX81_columns a)])
  | 5 => .inr (ci 4, [.int (mX82_predicate a), va_rf (mX82_places a)])
  | 6 => .inl (d 0, an a, .inl (ai a))
  | 7 => .inl (d 1, an a, .inl (ai a))
  | 8 => .inl (d 2, an a, .inr (.inr (.inr (.inr (ar a)))))
  | 9 => .inl (d 3, an a, .inr (.inr (.inr (.inr (ar a)))))
  | 10 => .inl (d 4, an a, .inr (.inr (.inr (.inr (ar a)))))
  | 11 => .inl (d 5, an a, .inr (.inr (.inr (.inr (ar a)))))
  | _ => .inl (d 0, 0, .inl (fun _ => 0))
abbrev kVR : List vw_C := [(RX32, TX32, 24), (RX33, TX33, 3), (RX34, TX34, 3), (RX81, TX81, 4), (RX82, TX82, 2)]
abbrev tVR (d : Nat → ClassId) : List (ClassId × FieldType) := [(d 0, .int), (d 1, .boolean), (d 2, (.object "KnowHouse$VirtualRewrite$Table")), (d 3, (.object "KnowHouse$VirtualRewrite$Mapping")), (d 4, (.object "KnowHouse$VirtualRewrite$Atom")), (d 5, (.object "KnowHouse$VirtualRewrite$Union"))]
theorem cVR_1 {ci : Nat → Nat} {d : Nat → ClassId} {kd : Nat → Nat} {an : Nat → Nat} {ai : Nat → Nat → Int32} {al : Nat → Nat → Int64} {ar : Nat → Nat → Option Nat} {mX32_tables : Nat → Option Nat} {mX32_mappings : Nat → Option Nat} {mX32_mappingCount : Nat → Int32} {mX32_atoms : Nat → Option Nat} {mX32_atomCount : Nat → Int32} {mX32_spanOf : Nat → Option Nat} {mX32_spanFrom : Nat → Option Nat} {mX32_spanTo : Nat → Option Nat} {mX32_spans : Nat → Int32} {mX32_unions : Nat → Option Nat} {mX32_unionCount : Nat → Int32} {mX32_large : Nat → Int32} {mX32_known : Nat → Int32} {mX32_chosen : Nat → Option Nat} {mX32_kinds : Nat → Option Nat} {mX32_given : Nat → Option Nat} {mX32_rowOf : Nat → Option Nat} {mX32_answers : Nat → Option Nat} {mX32_foundBy : Nat → Option Nat} {mX32_firstBy : Nat → Option Nat} {mX32_lastBy : Nat → Option Nat} {mX32_answerCount : Nat → Int32} {mX32_asked : Nat → Int32} {mX32_tooMany : Nat → Int32} {mX33_cells : Nat → Option Nat} {mX33_keys : Nat → Option Nat} {mX33_size : Nat → Int32} {mX34_mappings : Nat → Option Nat} {mX34_slots : Nat → Option Nat} {mX34_slotCount : Nat → Int32} {mX81_table : Nat → Option Nat} {mX81_predicate : Nat → Int32} {mX81_templates : Nat → Option Nat} {mX81_columns : Nat → Option Nat} {mX82_predicate : Nat → Int32} {mX82_places : Nat → Option Nat} {a : Nat} (hk : kd a = 1) : (cVR ci d kd an ai al ar mX32_tables mX32_mappings mX32_mappingCount mX32_atoms mX32_atomCount mX32_spanOf mX32_spanFrom mX32_spanTo mX32_spans mX32_unions mX32_unionCount mX32_large mX32_known mX32_chosen mX32_kinds mX32_given mX32_rowOf mX32_answers mX32_foundBy mX32_firstBy mX32_lastBy mX32_answerCount mX32_asked mX32_tooMany mX33_cells mX33_keys mX33_size mX34_mappings mX34_slots mX34_slotCount mX81_table mX81_predicate mX81_templates mX81_columns mX82_predicate mX82_places) a = .inr (ci 0, [va_rf (mX32_tables a), va_rf (mX32_mappings a), .int (mX32_mappingCount a), va_rf (mX32_atoms a), .int (mX32_atomCount a), va_rf (mX32_spanOf a), va_rf (mX32_spanFrom a), va_rf (mX32_spanTo a), .int (mX32_spans a), va_rf (mX32_unions a), .int (mX32_unionCount a), .int (mX32_large a), .int (mX32_known a), va_rf (mX32_chosen a), va_rf (mX32_kinds a), va_rf (mX32_given a), va_rf (mX32_rowOf a), va_rf (mX32_answers a), va_rf (mX32_foundBy a), va_rf (mX32_firstBy a), va_rf (mX32_lastBy a), .int (mX32_answerCount a), .int (mX32_asked a), .int (mX32_tooMany a)]) := by unfold cVR; simp only [hk]
theorem cVR_1_0 {ci : Nat → Nat} {d : Nat → ClassId} {kd : Nat → Nat} {an : Nat → Nat} {ai : Nat → Nat → Int32} {al : Nat → Nat → Int64} {ar : Nat → Nat → Option Nat} {mX32_tables : Nat → Option Nat} {mX32_mappings : Nat → Option Nat} {mX32_mappingCount : Nat → Int32} {mX32_atoms : Nat → Option Nat} {mX32_atomCount : Nat → Int32} {mX32_spanOf : Nat → Option Nat} {mX32_spanFrom : Nat → Option Nat} {mX32_spanTo : Nat → Option Nat} {mX32_spans : Nat → Int32} {mX32_unions : Nat → Option Nat} {mX32_unionCount : Nat → Int32} {mX32_large : Nat → Int32} {mX32_known : Nat → Int32} {mX32_chosen : Nat → Option Nat} {mX32_kinds : Nat → Option Nat} {mX32_given : Nat → Option Nat} {mX32_rowOf : Nat → Option Nat} {mX32_answers : Nat → Option Nat} {mX32_foundBy : Nat → Option Nat} {mX32_firstBy : Nat → Option Nat} {mX32_lastBy : Nat → Option Nat} {mX32_answerCount : Nat → Int32} {mX32_asked : Nat → Int32} {mX32_tooMany : Nat → Int32} {mX33_cells : Nat → Option Nat} {mX33_keys : Nat → Option Nat} {mX33_size : Nat → Int32} {mX34_mappings : Nat → Option Nat} {mX34_slots : Nat → Option Nat} {mX34_slotCount : Nat → Int32} {mX81_table : Nat → Option Nat} {mX81_predicate : Nat → Int32} {mX81_templates : Nat → Option Nat} {mX81_columns : Nat → Option Nat} {mX82_predicate : Nat → Int32} {mX82_places : Nat → Option Nat} {a : Nat} {v : Option Nat} (hk : kd a = 1) : va_up (cVR ci d kd an ai al ar mX32_tables mX32_mappings mX32_mappingCount mX32_atoms mX32_atomCount mX32_spanOf mX32_spanFrom mX32_spanTo mX32_spans mX32_unions mX32_unionCount mX32_large mX32_known mX32_chosen mX32_kinds mX32_given mX32_rowOf mX32_answers mX32_foundBy mX32_firstBy mX32_lastBy mX32_answerCount mX32_asked mX32_tooMany mX33_cells mX33_keys mX33_size mX34_mappings mX34_slots mX34_slotCount mX81_table mX81_predicate mX81_templates mX81_columns mX82_predicate mX82_places) a (.inr (ci 0, [va_rf v, va_rf (mX32_mappings a), .int (mX32_mappingCount a), va_rf (mX32_atoms a), .int (mX32_atomCount a), va_rf (mX32_spanOf a), va_rf (mX32_spanFrom a), va_rf (mX32_spanTo a), .int (mX32_spans a), va_rf (mX32_unions a), .int (mX32_unionCount a), .int (mX32_large a), .int (mX32_known a), va_rf (mX32_chosen a), va_rf (mX32_kinds a), va_rf (mX32_given a), va_rf (mX32_rowOf a), va_rf (mX32_answers a), va_rf (mX32_foundBy a), va_rf (mX32_firstBy a), va_rf (mX32_lastBy a), .int (mX32_answerCount a), .int (mX32_asked a), .int (mX32_tooMany a)])) = (cVR ci d kd an ai al ar (va_up mX32_tables a v) mX32_mappings mX32_mappingCount mX32_atoms mX32_atomCount mX32_spanOf mX32_spanFrom mX32_spanTo mX32_spans mX32_unions mX32_unionCount mX32_large mX32_known mX32_chosen mX32_kinds mX32_given mX32_rowOf mX32_answers mX32_foundBy mX32_firstBy mX32_lastBy mX32_answerCount mX32_asked mX32_tooMany mX33_cells mX33_keys mX33_size mX34_mappings mX34_slots mX34_slotCount mX81_table mX81_predicate mX81_templates mX81_columns mX82_predicate mX82_places) := by
  funext b
  by_cases h : b = a
  · subst h
    rw [va_up_self]
    unfold cVR
    rw [hk]
    simp only [va_up_self]
  · rw [va_up_ne _ _ h]
    unfold cVR
    simp only [va_up_ne _ _ h]
theorem cVR_1_1 {ci : Nat → Nat} {d : Nat → ClassId} {kd : Nat → Nat} {an : Nat → Nat} {ai : Nat → Nat → Int32} {al : Nat → Nat → Int64} {ar : Nat → Nat → Option Nat} {mX32_tables : Nat → Option Nat} {mX32_mappings : Nat → Option Nat} {mX32_mappingCount : Nat → Int32} {mX32_atoms : Nat → Option Nat} {mX32_atomCount : Nat → Int32} {mX32_spanOf : Nat → Option Nat} {mX32_spanFrom : Nat → Option Nat} {mX32_spanTo : Nat → Option Nat} {mX32_spans : Nat → Int32} {mX32_unions : Nat → Option Nat} {mX32_unionCount : Nat → Int32} {mX32_large : Nat → Int32} {mX32_known : Nat → Int32} {mX32_chosen : Nat → Option Nat} {mX32_kinds : Nat → Option Nat} {mX32_given : Nat → Option Nat} {mX32_rowOf : Nat → Option Nat} {mX32_answers : Nat → Option Nat} {mX32_foundBy : Nat → Option Nat} {mX32_firstBy : Nat → Option Nat} {mX32_lastBy : Nat → Option Nat} {mX32_answerCount : Nat → Int32} {mX32_asked : Nat → Int32} {mX32_tooMany : Nat → Int32} {mX33_cells : Nat → Option Nat} {mX33_keys : Nat → Option Nat} {mX33_size : Nat → Int32} {mX34_mappings : Nat → Option Nat} {mX34_slots : Nat → Option Nat} {mX34_slotCount : Nat → Int32} {mX81_table : Nat → Option Nat} {mX81_predicate : Nat → Int32} {mX81_templates : Nat → Option Nat} {mX81_columns : Nat → Option Nat} {mX82_predicate : Nat → Int32} {mX82_places : Nat → Option Nat} {a : Nat} {v : Option Nat} (hk : kd a = 1) : va_up (cVR ci d kd an ai al ar mX32_tables mX32_mappings mX32_mappingCount mX32_atoms mX32_atomCount mX32_spanOf mX32_spanFrom mX32_spanTo mX32_spans mX32_unions mX32_unionCount mX32_large mX32_known mX32_chosen mX32_kinds mX32_given mX32_rowOf mX32_answers mX32_foundBy mX32_firstBy mX32_lastBy mX32_answerCount mX32_asked mX32_tooMany mX33_cells mX33_keys mX33_size mX34_mappings mX34_slots mX34_slotCount mX81_table mX81_predicate mX81_templates mX81_columns mX82_predicate mX82_places) a (.inr (ci 0, [va_rf (mX32_tables a), va_rf v, .int (mX32_mappingCount a), va_rf (mX32_atoms a), .int (mX32_atomCount a), va_rf (mX32_spanOf a), va_rf (mX32_spanFrom a), va_rf (mX32_spanTo a), .int (mX32_spans a), va_rf (mX32_unions a), .int (mX32_unionCount a), .int (mX32_large a), .int (mX32_known a), va_rf (mX32_chosen a), va_rf (mX32_kinds a), va_rf (mX32_given a), va_rf (mX32_rowOf a), va_rf (mX32_answers a), va_rf (mX32_foundBy a), va_rf (mX32_firstBy a), va_rf (mX32_lastBy a), .int (mX32_answerCount a), .int (mX32_asked a), .int (mX32_tooMany a)])) = (cVR ci d kd an ai al ar mX32_tables (va_up mX32_mappings a v) mX32_mappingCount mX32_atoms mX32_atomCount mX32_spanOf mX32_spanFrom mX32_spanTo mX32_spans mX32_unions mX32_unionCount mX32_large mX32_known mX32_chosen mX32_kinds mX32_given mX32_rowOf mX32_answers mX32_foundBy mX32_firstBy mX32_lastBy mX32_answerCount mX32_asked mX32_tooMany mX33_cells mX33_keys mX33_size mX34_mappings mX34_slots mX34_slotCount mX81_table mX81_predicate mX81_templates mX81_columns mX82_predicate mX82_places) := by
  funext b
  by_cases h : b = a
  · subst h
    rw [va_up_self]
    unfold cVR
    rw [hk]
    simp only [va_up_self]
  · rw [va_up_ne _ _ h]
    unfold cVR
    simp only [va_up_ne _ _ h]
theorem cVR_1_2 {ci : Nat → Nat} {d : Nat → ClassId} {kd : Nat → Nat} {an : Nat → Nat} {ai : Nat → Nat → Int32} {al : Nat → Nat → Int64} {ar : Nat → Nat → Option Nat} {mX32_tables : Nat → Option Nat} {mX32_mappings : Nat → Option Nat} {mX32_mappingCount : Nat → Int32} {mX32_atoms : Nat → Option Nat} {mX32_atomCount : Nat → Int32} {mX32_spanOf : Nat → Option Nat} {mX32_spanFrom : Nat → Option Nat} {mX32_spanTo : Nat → Option Nat} {mX32_spans : Nat → Int32} {mX32_unions : Nat → Option Nat} {mX32_unionCount : Nat → Int32} {mX32_large : Nat → Int32} {mX32_known : Nat → Int32} {mX32_chosen : Nat → Option Nat} {mX32_kinds : Nat → Option Nat} {mX32_given : Nat → Option Nat} {mX32_rowOf : Nat → Option Nat} {mX32_answers : Nat → Option Nat} {mX32_foundBy : Nat → Option Nat} {mX32_firstBy : Nat → Option Nat} {mX32_lastBy : Nat → Option Nat} {mX32_answerCount : Nat → Int32} {mX32_asked : Nat → Int32} {mX32_tooMany : Nat → Int32} {mX33_cells : Nat → Option Nat} {mX33_keys : Nat → Option Nat} {mX33_size : Nat → Int32} {mX34_mappings : Nat → Option Nat} {mX34_slots : Nat → Option Nat} {mX34_slotCount : Nat → Int32} {mX81_table : Nat → Option Nat} {mX81_predicate : Nat → Int32} {mX81_templates : Nat → Option Nat} {mX81_columns : Nat → Option Nat} {mX82_predicate : Nat → Int32} {mX82_places : Nat → Option Nat} {a : Nat} {v : Int32} (hk : kd a = 1) : va_up (cVR ci d kd an ai al ar mX32_tables mX32_mappings mX32_mappingCount mX32_atoms mX32_atomCount mX32_spanOf mX32_spanFrom mX32_spanTo mX32_spans mX32_unions mX32_unionCount mX32_large mX32_known mX32_chosen mX32_kinds mX32_given mX32_rowOf mX32_answers mX32_foundBy mX32_firstBy mX32_lastBy mX32_answerCount mX32_asked mX32_tooMany mX33_cells mX33_keys mX33_size mX34_mappings mX34_slots mX34_slotCount mX81_table mX81_predicate mX81_templates mX81_columns mX82_predicate mX82_places) a (.inr (ci 0, [va_rf (mX32_tables a), va_rf (mX32_mappings a), .int v, va_rf (mX32_atoms a), .int (mX32_atomCount a), va_rf (mX32_spanOf a), va_rf (mX32_spanFrom a), va_rf (mX32_spanTo a), .int (mX32_spans a), va_rf (mX32_unions a), .int (mX32_unionCount a), .int (mX32_large a), .int (mX32_known a), va_rf (mX32_chosen a), va_rf (mX32_kinds a), va_rf (mX32_given a), va_rf (mX32_rowOf a), va_rf (mX32_answers a), va_rf (mX32_foundBy a), va_rf (mX32_firstBy a), va_rf (mX32_lastBy a), .int (mX32_answerCount a), .int (mX32_asked a), .int (mX32_tooMany a)])) = (cVR ci d kd an ai al ar mX32_tables mX32_mappings (va_up mX32_mappingCount a v) mX32_atoms mX32_atomCount mX32_spanOf mX32_spanFrom mX32_spanTo mX32_spans mX32_unions mX32_unionCount mX32_large mX32_known mX32_chosen mX32_kinds mX32_given mX32_rowOf mX32_answers mX32_foundBy mX32_firstBy mX32_lastBy mX32_answerCount mX32_asked mX32_tooMany mX33_cells mX33_keys mX33_size mX34_mappings mX34_slots mX34_slotCount mX81_table mX81_predicate mX81_templates mX81_columns mX82_predicate mX82_places) := by
  funext b
  by_cases h : b = a
  · subst h
    rw [va_up_self]
    unfold cVR
    rw [hk]
    simp only [va_up_self]
  · rw [va_up_ne _ _ h]
    unfold cVR
    simp only [va_up_ne _ _ h]
theorem cVR_1_3 {ci : Nat → Nat} {d : Nat → ClassId} {kd : Nat → Nat} {an : Nat → Nat} {ai : Nat → Nat → Int32} {al : Nat → Nat → Int64} {ar : Nat → Nat → Option Nat} {mX32_tables : Nat → Option Nat} {mX32_mappings : Nat → Option Nat} {mX32_mappingCount : Nat → Int32} {mX32_atoms : Nat → Option Nat} {mX32_atomCount : Nat → Int32} {mX32_spanOf : Nat → Option Nat} {mX32_spanFrom : Nat → Option Nat} {mX32_spanTo : Nat → Option Nat} {mX32_spans : Nat → Int32} {mX32_unions : Nat → Option Nat} {mX32_unionCount : Nat → Int32} {mX32_large : Nat → Int32} {mX32_known : Nat → Int32} {mX32_chosen : Nat → Option Nat} {mX32_kinds : Nat → Option Nat} {mX32_given : Nat → Option Nat} {mX32_rowOf : Nat → Option Nat} {mX32_answers : Nat → Option Nat} {mX32_foundBy : Nat → Option Nat} {mX32_firstBy : Nat → Option Nat} {mX32_lastBy : Nat → Option Nat} {mX32_answerCount : Nat → Int32} {mX32_asked : Nat → Int32} {mX32_tooMany : Nat → Int32} {mX33_cells : Nat → Option Nat} {mX33_keys : Nat → Option Nat} {mX33_size : Nat → Int32} {mX34_mappings : Nat → Option Nat} {mX34_slots : Nat → Option Nat} {mX34_slotCount : Nat → Int32} {mX81_table : Nat → Option Nat} {mX81_predicate : Nat → Int32} {mX81_templates : Nat → Option Nat} {mX81_columns : Nat → Option Nat} {mX82_predicate : Nat → Int32} {mX82_places : Nat → Option Nat} {a : Nat} {v : Option Nat} (hk : kd a = 1) : va_up (cVR ci d kd an ai al ar mX32_tables mX32_mappings mX32_mappingCount mX32_atoms mX32_atomCount mX32_spanOf mX32_spanFrom mX32_spanTo mX32_spans mX32_unions mX32_unionCount mX32_large mX32_known mX32_chosen mX32_kinds mX32_given mX32_rowOf mX32_answers mX32_foundBy mX32_firstBy mX32_lastBy mX32_answerCount mX32_asked mX32_tooMany mX33_cells mX33_keys mX33_size mX34_mappings mX34_slots mX34_slotCount mX81_table mX81_predicate mX81_templates mX81_columns mX82_predicate mX82_places) a (.inr (ci 0, [va_rf (mX32_tables a), va_rf (mX32_mappings a), .int (mX32_mappingCount a), va_rf v, .int (mX32_atomCount a), va_rf (mX32_spanOf a), va_rf (mX32_spanFrom a), va_rf (mX32_spanTo a), .int (mX32_spans a), va_rf (mX32_unions a), .int (mX32_unionCount a), .int (mX32_large a), .int (mX32_known a), va_rf (mX32_chosen a), va_rf (mX32_kinds a), va_rf (mX32_given a), va_rf (mX32_rowOf a), va_rf (mX32_answers a), va_rf (mX32_foundBy a), va_rf (mX32_firstBy a), va_rf (mX32_lastBy a), .int (mX32_answerCount a), .int (mX32_asked a), .int (mX32_tooMany a)])) = (cVR ci d kd an ai al ar mX32_tables mX32_mappings mX32_mappingCount (va_up mX32_atoms a v) mX32_atomCount mX32_spanOf mX32_spanFrom mX32_spanTo mX32_spans mX32_unions mX32_unionCount mX32_large mX32_known mX32_chosen mX32_kinds mX32_given mX32_rowOf mX32_answers mX32_foundBy mX32_firstBy mX32_lastBy mX32_answerCount mX32_asked mX32_tooMany mX33_cells mX33_keys mX33_size mX34_mappings mX34_slots mX34_slotCount mX81_table mX81_predicate mX81_templates mX81_columns mX82_predicate mX82_places) := by
  funext b
  by_cases h : b = a
  · subst h
    rw [va_up_self]
    unfold cVR
    rw [hk]
    simp only [va_up_self]
  · rw [va_up_ne _ _ h]
    unfold cVR
    simp only [va_up_ne _ _ h]
theorem cVR_1_4 {ci : Nat → Nat} {d : Nat → ClassId} {kd : Nat → Nat} {an : Nat → Nat} {ai : Nat → Nat → Int32} {al : Nat → Nat → Int64} {ar : Nat → Nat → Option Nat} {mX32_tables : Nat → Option Nat} {mX32_mappings : Nat → Option Nat} {mX32_mappingCount : Nat → Int32} {mX32_atoms : Nat → Option Nat} {mX32_atomCount : Nat → Int32} {mX32_spanOf : Nat → Option Nat} {mX32_spanFrom : Nat → Option Nat} {mX32_spanTo : Nat → Option Nat} {mX32_spans : Nat → Int32} {mX32_unions : Nat → Option Nat} {mX32_unionCount : Nat → Int32} {mX32_large : Nat → Int32} {mX32_known : Nat → Int32} {mX32_chosen : Nat → Option Nat} {mX32_kinds : Nat → Option Nat} {mX32_given : Nat → Option Nat} {mX32_rowOf : Nat → Option Nat} {mX32_answers : Nat → Option Nat} {mX32_foundBy : Nat → Option Nat} {mX32_firstBy : Nat → Option Nat} {mX32_lastBy : Nat → Option Nat} {mX32_answerCount : Nat → Int32} {mX32_asked : Nat → Int32} {mX32_tooMany : Nat → Int32} {mX33_cells : Nat → Option Nat} {mX33_keys : Nat → Option Nat} {mX33_size : Nat → Int32} {mX34_mappings : Nat → Option Nat} {mX34_slots : Nat → Option Nat} {mX34_slotCount : Nat → Int32} {mX81_table : Nat → Option Nat} {mX81_predicate : Nat → Int32} {mX81_templates : Nat → Option Nat} {mX81_columns : Nat → Option Nat} {mX82_predicate : Nat → Int32} {mX82_places : Nat → Option Nat} {a : Nat} {v : Int32} (hk : kd a = 1) : va_up (cVR ci d kd an ai al ar mX32_tables mX32_mappings mX32_mappingCount mX32_atoms mX32_atomCount mX32_spanOf mX32_spanFrom mX32_spanTo mX32_spans mX32_unions mX32_unionCount mX32_large mX32_known mX32_chosen mX32_kinds mX32_given mX32_rowOf mX32_answers mX32_foundBy mX32_firstBy mX32_lastBy mX32_answerCount mX32_asked mX32_tooMany mX33_cells mX33_keys mX33_size mX34_mappings mX34_slots mX34_slotCount mX81_table mX81_predicate mX81_templates mX81_columns mX82_predicate mX82_places) a (.inr (ci 0, [va_rf (mX32_tables a), va_rf (mX32_mappings a), .int (mX32_mappingCount a), va_rf (mX32_atoms a), .int v, va_rf (mX32_spanOf a), va_rf (mX32_spanFrom a), va_rf (mX32_spanTo a), .int (mX32_spans a), va_rf (mX32_unions a), .int (mX32_unionCount a), .int (mX32_large a), .int (mX32_known a), va_rf (mX32_chosen a), va_rf (mX32_kinds a), va_rf (mX32_given a), va_rf (mX32_rowOf a), va_rf (mX32_answers a), va_rf (mX32_foundBy a), va_rf (mX32_firstBy a), va_rf (mX32_lastBy a), .int (mX32_answerCount a), .int (mX32_asked a), .int (mX32_tooMany a)])) = (cVR ci d kd an ai al ar mX32_tables mX32_mappings mX32_mappingCount mX32_atoms (va_up mX32_atomCount a v) mX32_spanOf mX32_spanFrom mX32_spanTo mX32_spans mX32_unions mX32_unionCount mX32_large mX32_known mX32_chosen mX32_kinds mX32_given mX32_rowOf mX32_answers mX32_foundBy mX32_firstBy mX32_lastBy mX32_answerCount mX32_asked mX32_tooMany mX33_cells mX33_keys mX33_size mX34_mappings mX34_slots mX34_slotCount mX81_table mX81_predicate mX81_templates mX81_columns mX82_predicate mX82_places) := by
  funext b
  by_cases h : b = a
  · subst h
    rw [va_up_self]
    unfold cVR
    rw [hk]
    simp only [va_up_self]
  · rw [va_up_ne _ _ h]
    unfold cVR
    simp only [va_up_ne _ _ h]
theorem cVR_1_5 {ci : Nat → Nat} {d : Nat → ClassId} {kd : Nat → Nat} {an : Nat → Nat} {ai : Nat → Nat → Int32} {al : Nat → Nat → Int64} {ar : Nat → Nat → Option Nat} {mX32_tables : Nat → Option Nat} {mX32_mappings : Nat → Option Nat} {mX32_mappingCount : Nat → Int32} {mX32_atoms : Nat → Option Nat} {mX32_atomCount : Nat → Int32} {mX32_spanOf : Nat → Option Nat} {mX32_spanFrom : Nat → Option Nat} {mX32_spanTo : Nat → Option Nat} {mX32_spans : Nat → Int32} {mX32_unions : Nat → Option Nat} {mX32_unionCount : Nat → Int32} {mX32_large : Nat → Int32} {mX32_known : Nat → Int32} {mX32_chosen : Nat → Option Nat} {mX32_kinds : Nat → Option Nat} {mX32_given : Nat → Option Nat} {mX32_rowOf : Nat → Option Nat} {mX32_answers : Nat → Option Nat} {mX32_foundBy : Nat → Option Nat} {mX32_firstBy : Nat → Option Nat} {mX32_lastBy : Nat → Option Nat} {mX32_answerCount : Nat → Int32} {mX32_asked : Nat → Int32} {mX32_tooMany : Nat → Int32} {mX33_cells : Nat → Option Nat} {mX33_keys : Nat → Option Nat} {mX33_size : Nat → Int32} {mX34_mappings : Nat → Option Nat} {mX34_slots : Nat → Option Nat} {mX34_slotCount : Nat → Int32} {mX81_table : Nat → Option Nat} {mX81_predicate : Nat → Int32} {mX81_templates : Nat → Option Nat} {mX81_columns : Nat → Option Nat} {mX82_predicate : Nat → Int32} {mX82_places : Nat → Option Nat} {a : Nat} {v : Option Nat} (hk : kd a = 1) : va_up (cVR ci d kd an ai al ar mX32_tables mX32_mappings mX32_mappingCount mX32_atoms mX32_atomCount mX32_spanOf mX32_spanFrom mX32_spanTo mX32_spans mX32_unions mX32_unionCount mX32_large mX32_known mX32_chosen mX32_kinds mX32_given mX32_rowOf mX32_answers mX32_foundBy mX32_firstBy mX32_lastBy mX32_answerCount mX32_asked mX32_tooMany mX33_cells mX33_keys mX33_size mX34_mappings mX34_slots mX34_slotCount mX81_table mX81_predicate mX81_templates mX81_columns mX82_predicate mX82_places) a (.inr (ci 0, [va_rf (mX32_tables a), va_rf (mX32_mappings a), .int (mX32_mappingCount a), va_rf (mX32_atoms a), .int (mX32_atomCount a), va_rf v, va_rf (mX32_spanFrom a), va_rf (mX32_spanTo a), .int (mX32_spans a), va_rf (mX32_unions a), .int (mX32_unionCount a), .int (mX32_large a), .int (mX32_known a), va_rf (mX32_chosen a), va_rf (mX32_kinds a), va_rf (mX32_given a), va_rf (mX32_rowOf a), va_rf (mX32_answers a), va_rf (mX32_foundBy a), va_rf (mX32_firstBy a), va_rf (mX32_lastBy a), .int (mX32_answerCount a), .int (mX32_asked a), .int (mX32_tooMany a)])) = (cVR ci d kd an ai al ar mX32_tables mX32_mappings mX32_mappingCount mX32_atoms mX32_atomCount (va_up mX32_spanOf a v) mX32_spanFrom mX32_spanTo mX32_spans mX32_unions mX32_unionCount mX32_large mX32_known mX32_chosen mX32_kinds mX32_given mX32_rowOf mX32_answers mX32_foundBy mX32_firstBy mX32_lastBy mX32_answerCount mX32_asked mX32_tooMany mX33_cells mX33_keys mX33_size mX34_mappings mX34_slots mX34_slotCount mX81_table mX81_predicate mX81_templates mX81_columns mX82_predicate mX82_places) := by
  funext b
  by_cases h : b = a
  · subst h
    rw [va_up_self]
    unfold cVR
    rw [hk]
    simp only [va_up_self]
  · rw [va_up_ne _ _ h]
    unfold cVR
    simp only [va_up_ne _ _ h]
theorem cVR_1_6 {ci : Nat → Nat} {d : Nat → ClassId} {kd : Nat → Nat} {an : Nat → Nat} {ai : Nat → Nat → Int32} {al : Nat → Nat → Int64} {ar : Nat → Nat → Option Nat} {mX32_tables : Nat → Option Nat} {mX32_mappings : Nat → Option Nat} {mX32_mappingCount : Nat → Int32} {mX32_atoms : Nat → Option Nat} {mX32_atomCount : Nat → Int32} {mX32_spanOf : Nat → Option Nat} {mX32_spanFrom : Nat → Option Nat} {mX32_spanTo : Nat → Option Nat} {mX32_spans : Nat → Int32} {mX32_unions : Nat → Option Nat} {mX32_unionCount : Nat → Int32} {mX32_large : Nat → Int32} {mX32_known : Nat → Int32} {mX32_chosen : Nat → Option Nat} {mX32_kinds : Nat → Option Nat} {mX32_given : Nat → Option Nat} {mX32_rowOf : Nat → Option Nat} {mX32_answers : Nat → Option Nat} {mX32_foundBy : Nat → Option Nat} {mX32_firstBy : Nat → Option Nat} {mX32_lastBy : Nat → Option Nat} {mX32_answerCount : Nat → Int32} {mX32_asked : Nat → Int32} {mX32_tooMany : Nat → Int32} {mX33_cells : Nat → Option Nat} {mX33_keys : Nat → Option Nat} {mX33_size : Nat → Int32} {mX34_mappings : Nat → Option Nat} {mX34_slots : Nat → Option Nat} {mX34_slotCount : Nat → Int32} {mX81_table : Nat → Option Nat} {mX81_predicate : Nat → Int32} {mX81_templates : Nat → Option Nat} {mX81_columns : Nat → Option Nat} {mX82_predicate : Nat → Int32} {mX82_places : Nat → Option Nat} {a : Nat} {v : Option Nat} (hk : kd a = 1) : va_up (cVR ci d kd an ai al ar mX32_tables mX32_mappings mX32_mappingCount mX32_atoms mX32_atomCount mX32_spanOf mX32_spanFrom mX32_spanTo mX32_spans mX32_unions mX32_unionCount mX32_large mX32_known mX32_chosen mX32_kinds mX32_given mX32_rowOf mX32_answers mX32_foundBy mX32_firstBy mX32_lastBy mX32_answerCount mX32_asked mX32_tooMany mX33_cells mX33_keys mX33_size mX34_mappings mX34_slots mX34_slotCount mX81_table mX81_predicate mX81_templates mX81_columns mX82_predicate mX82_places) a (.inr (ci 0, [va_rf (mX32_tables a), va_rf (mX32_mappings a), .int (mX32_mappingCount a), va_rf (mX32_atoms a), .int (mX32_atomCount a), va_rf (mX32_spanOf a), va_rf v, va_rf (mX32_spanTo a), .int (mX32_spans a), va_rf (mX32_unions a), .int (mX32_unionCount a), .int (mX32_large a), .int (mX32_known a), va_rf (mX32_chosen a), va_rf (mX32_kinds a), va_rf (mX32_given a), va_rf (mX32_rowOf a), va_rf (mX32_answers a), va_rf (mX32_foundBy a), va_rf (mX32_firstBy a), va_rf (mX32_lastBy a), .int (mX32_answerCount a), .int (mX32_asked a), .int (mX32_tooMany a)])) = (cVR ci d kd an ai al ar mX32_tables mX32_mappings mX32_mappingCount mX32_atoms mX32_atomCount mX32_spanOf (va_up mX32_spanFrom a v) mX32_spanTo mX32_spans mX32_unions mX32_unionCount mX32_large mX32_known mX32_chosen mX32_kinds mX32_given mX32_rowOf mX32_answers mX32_foundBy mX32_firstBy mX32_lastBy mX32_answerCount mX32_asked mX32_tooMany mX33_cells mX33_keys mX33_size mX34_mappings mX34_slots mX34_slotCount mX81_table mX81_predicate mX81_templates mX81_columns mX82_predicate mX82_places) := by
  funext b
  by_cases h : b = a
  · subst h
    rw [va_up_self]
    unfold cVR
    rw [hk]
    simp only [va_up_self]
  · rw [va_up_ne _ _ h]
    unfold cVR
    simp only [va_up_ne _ _ h]
theorem cVR_1_7 {ci : Nat → Nat} {d : Nat → ClassId} {kd : Nat → Nat} {an : Nat → Nat} {ai : Nat → Nat → Int32} {al : Nat → Nat → Int64} {ar : Nat → Nat → Option Nat} {mX32_tables : Nat → Option Nat} {mX32_mappings : Nat → Option Nat} {mX32_mappingCount : Nat → Int32} {mX32_atoms : Nat → Option Nat} {mX32_atomCount : Nat → Int32} {mX32_spanOf : Nat → Option Nat} {mX32_spanFrom : Nat → Option Nat} {mX32_spanTo : Nat → Option Nat} {mX32_spans : Nat → Int32} {mX32_unions : Nat → Option Nat} {mX32_unionCount : Nat → Int32} {mX32_large : Nat → Int32} {mX32_known : Nat → Int32} {mX32_chosen : Nat → Option Nat} {mX32_kinds : Nat → Option Nat} {mX32_given : Nat → Option Nat} {mX32_rowOf : Nat → Option Nat} {mX32_answers : Nat → Option Nat} {mX32_foundBy : Nat → Option Nat} {mX32_firstBy : Nat → Option Nat} {mX32_lastBy : Nat → Option Nat} {mX32_answerCount : Nat → Int32} {mX32_asked : Nat → Int32} {mX32_tooMany : Nat → Int32} {mX33_cells : Nat → Option Nat} {mX33_keys : Nat → Option Nat} {mX33_size : Nat → Int32} {mX34_mappings : Nat → Option Nat} {mX34_slots : Nat → Option Nat} {mX34_slotCount : Nat → Int32} {mX81_table : Nat → Option Nat} {mX81_predicate : Nat → Int32} {mX81_templates : Nat → Option Nat} {mX81_columns : Nat → Option Nat} {mX82_predicate : Nat → Int32} {mX82_places : Nat → Option Nat} {a : Nat} {v : Option Nat} (hk : kd a = 1) : va_up (cVR ci d kd an ai al ar mX32_tables mX32_mappings mX32_mappingCount mX32_atoms mX32_atomCount mX32_spanOf mX32_spanFrom mX32_spanTo mX32_spans mX32_unions mX32_unionCount mX32_large mX32_known mX32_chosen mX32_kinds mX32_given mX32_rowOf mX32_answers mX32_foundBy mX32_firstBy mX32_lastBy mX32_answerCount mX32_asked mX32_tooMany mX33_cells mX33_keys mX33_size mX34_mappings mX34_slots mX34_slotCount mX81_table mX81_predicate mX81_templates mX81_columns mX82_predicate mX82_places) a (.inr (ci 0, [va_rf (mX32_tables a), va_rf (mX32_mappings a), .int (mX32_mappingCount a), va_rf (mX32_atoms a), .int (mX32_atomCount a), va_rf (mX32_spanOf a), va_rf (mX32_spanFrom a), va_rf v, .int (mX32_spans a), va_rf (mX32_unions a), .int (mX32_unionCount a), .int (mX32_large a), .int (mX32_known a), va_rf (mX32_chosen a), va_rf (mX32_kinds a), va_rf (mX32_given a), va_rf (mX32_rowOf a), va_rf (mX32_answers a), va_rf (mX32_foundBy a), va_rf (mX32_firstBy a), va_rf (mX32_lastBy a), .int (mX32_answerCount a), .int (mX32_asked a), .int (mX32_tooMany a)])) = (cVR ci d kd an ai al ar mX32_tables mX32_mappings mX32_mappingCount mX32_atoms mX32_atomCount mX32_spanOf mX32_spanFrom (va_up mX32_spanTo a v) mX32_spans mX32_unions mX32_unionCount mX32_large mX32_known mX32_chosen mX32_kinds mX32_given mX32_rowOf mX32_answers mX32_foundBy mX32_firstBy mX32_lastBy mX32_answerCount mX32_asked mX32_tooMany mX33_cells mX33_keys mX33_size mX34_mappings mX34_slots mX34_slotCount mX81_table mX81_predicate mX81_templates mX81_columns mX82_predicate mX82_places) := by
  funext b
  by_cases h : b = a
  · subst h
    rw [va_up_self]
    unfold cVR
    rw [hk]
    simp only [va_up_self]
  · rw [va_up_ne _ _ h]
    unfold cVR
    simp only [va_up_ne _ _ h]
theorem cVR_1_8 {ci : Nat → Nat} {d : Nat → ClassId} {kd : Nat → Nat} {an : Nat → Nat} {ai : Nat → Nat → Int32} {al : Nat → Nat → Int64} {ar : Nat → Nat → Option Nat} {mX32_tables : Nat → Option Nat} {mX32_mappings : Nat → Option Nat} {mX32_mappingCount : Nat → Int32} {mX32_atoms : Nat → Option Nat} {mX32_atomCount : Nat → Int32} {mX32_spanOf : Nat → Option Nat} {mX32_spanFrom : Nat → Option Nat} {mX32_spanTo : Nat → Option Nat} {mX32_spans : Nat → Int32} {mX32_unions : Nat → Option Nat} {mX32_unionCount : Nat → Int32} {mX32_large : Nat → Int32} {mX32_known : Nat → Int32} {mX32_chosen : Nat → Option Nat} {mX32_kinds : Nat → Option Nat} {mX32_given : Nat → Option Nat} {mX32_rowOf : Nat → Option Nat} {mX32_answers : Nat → Option Nat} {mX32_foundBy : Nat → Option Nat} {mX32_firstBy : Nat → Option Nat} {mX32_lastBy : Nat → Option Nat} {mX32_answerCount : Nat → Int32} {mX32_asked : Nat → Int32} {mX32_tooMany : Nat → Int32} {mX33_cells : Nat → Option Nat} {mX33_keys : Nat → Option Nat} {mX33_size : Nat → Int32} {mX34_mappings : Nat → Option Nat} {mX34_slots : Nat → Option Nat} {mX34_slotCount : Nat → Int32} {mX81_table : Nat → Option Nat} {mX81_predicate : Nat → Int32} {mX81_templates : Nat → Option Nat} {mX81_columns : Nat → Option Nat} {mX82_predicate : Nat → Int32} {mX82_places : Nat → Option Nat} {a : Nat} {v : Int32} (hk : kd a = 1) : va_up (cVR ci d kd an ai al ar mX32_tables mX32_mappings mX32_mappingCount mX32_atoms mX32_atomCount mX32_spanOf mX32_spanFrom mX32_spanTo mX32_spans mX32_unions mX32_unionCount mX32_large mX32_known mX32_chosen mX32_kinds mX32_given mX32_rowOf mX32_answers mX32_foundBy mX32_firstBy mX32_lastBy mX32_answerCount mX32_asked mX32_tooMany mX33_cells mX33_keys mX33_size mX34_mappings mX34_slots mX34_slotCount mX81_table mX81_predicate mX81_templates mX81_columns mX82_predicate mX82_places) a (.inr (ci 0, [va_rf (mX32_tables a), va_rf (mX32_mappings a), .int (mX32_mappingCount a), va_rf (mX32_atoms a), .int (mX32_atomCount a), va_rf (mX32_spanOf a), va_rf (mX32_spanFrom a), va_rf (mX32_spanTo a), .int v, va_rf (mX32_unions a), .int (mX32_unionCount a), .int (mX32_large a), .int (mX32_known a), va_rf (mX32_chosen a), va_rf (mX32_kinds a), va_rf (mX32_given a), va_rf (mX32_rowOf a), va_rf (mX32_answers a), va_rf (mX32_foundBy a), va_rf (mX32_firstBy a), va_rf (mX32_lastBy a), .int (mX32_answerCount a), .int (mX32_asked a), .int (mX32_tooMany a)])) = (cVR ci d kd an ai al ar mX32_tables mX32_mappings mX32_mappingCount mX32_atoms mX32_atomCount mX32_spanOf mX32_spanFrom mX32_spanTo (va_up mX32_spans a v) mX32_unions mX32_unionCount mX32_large mX32_known mX32_chosen mX32_kinds mX32_given mX32_rowOf mX32_answers mX32_foundBy mX32_firstBy mX32_lastBy mX32_answerCount mX32_asked mX32_tooMany mX33_cells mX33_keys mX33_size mX34_mappings mX34_slots mX34_slotCount mX81_table mX81_predicate mX81_templates mX81_columns mX82_predicate mX82_places) := by
  funext b
  by_cases h : b = a
  · subst h
    rw [va_up_self]
    unfold cVR
    rw [hk]
    simp only [va_up_self]
  · rw [va_up_ne _ _ h]
    unfold cVR
    simp only [va_up_ne _ _ h]
theorem cVR_1_9 {ci : Nat → Nat} {d : Nat → ClassId} {kd : Nat → Nat} {an : Nat → Nat} {ai : Nat → Nat → Int32} {al : Nat → Nat → Int64} {ar : Nat → Nat → Option Nat} {mX32_tables : Nat → Option Nat} {mX32_mappings : Nat → Option Nat} {mX32_mappingCount : Nat → Int32} {mX32_atoms : Nat → Option Nat} {mX32_atomCount : Nat → Int32} {mX32_spanOf : Nat → Option Nat} {mX32_spanFrom : Nat → Option Nat} {mX32_spanTo : Nat → Option Nat} {mX32_spans : Nat → Int32} {mX32_unions : Nat → Option Nat} {mX32_unionCount : Nat → Int32} {mX32_large : Nat → Int32} {mX32_known : Nat → Int32} {mX32_chosen : Nat → Option Nat} {mX32_kinds : Nat → Option Nat} {mX32_given : Nat → Option Nat} {mX32_rowOf : Nat → Option Nat} {mX32_answers : Nat → Option Nat} {mX32_foundBy : Nat → Option Nat} {mX32_firstBy : Nat → Option Nat} {mX32_lastBy : Nat → Option Nat} {mX32_answerCount : Nat → Int32} {mX32_asked : Nat → Int32} {mX32_tooMany : Nat → Int32} {mX33_cells : Nat → Option Nat} {mX33_keys : Nat → Option Nat} {mX33_size : Nat → Int32} {mX34_mappings : Nat → Option Nat} {mX34_slots : Nat → Option Nat} {mX34_slotCount : Nat → Int32} {mX81_table : Nat → Option Nat} {mX81_predicate : Nat → Int32} {mX81_templates : Nat → Option Nat} {mX81_columns : Nat → Option Nat} {mX82_predicate : Nat → Int32} {mX82_places : Nat → Option Nat} {a : Nat} {v : Option Nat} (hk : kd a = 1) : va_up (cVR ci d kd an ai al ar mX32_tables mX32_mappings mX32_mappingCount mX32_atoms mX32_atomCount mX32_spanOf mX32_spanFrom mX32_spanTo mX32_spans mX32_unions mX32_unionCount mX32_large mX32_known mX32_chosen mX32_kinds mX32_given mX32_rowOf mX32_answers mX32_foundBy mX32_firstBy mX32_lastBy mX32_answerCount mX32_asked mX32_tooMany mX33_cells mX33_keys mX33_size mX34_mappings mX34_slots mX34_slotCount mX81_table mX81_predicate mX81_templates mX81_columns mX82_predicate mX82_places) a (.inr (ci 0, [va_rf (mX32_tables a), va_rf (mX32_mappings a), .int (mX32_mappingCount a), va_rf (mX32_atoms a), .int (mX32_atomCount a), va_rf (mX32_spanOf a), va_rf (mX32_spanFrom a), va_rf (mX32_spanTo a), .int (mX32_spans a), va_rf v, .int (mX32_unionCount a), .int (mX32_large a), .int (mX32_known a), va_rf (mX32_chosen a), va_rf (mX32_kinds a), va_rf (mX32_given a), va_rf (mX32_rowOf a), va_rf (mX32_answers a), va_rf (mX32_foundBy a), va_rf (mX32_firstBy a), va_rf (mX32_lastBy a), .int (mX32_answerCount a), .int (mX32_asked a), .int (mX32_tooMany a)])) = (cVR ci d kd an ai al ar mX32_tables mX32_mappings mX32_mappingCount mX32_atoms mX32_atomCount mX32_spanOf mX32_spanFrom mX32_spanTo mX32_spans (va_up mX32_unions a v) mX32_unionCount mX32_large mX32_known mX32_chosen mX32_kinds mX32_given mX32_rowOf mX32_answers mX32_foundBy mX32_firstBy mX32_lastBy mX32_answerCount mX32_asked mX32_tooMany mX33_cells mX33_keys mX33_size mX34_mappings mX34_slots mX34_slotCount mX81_table mX81_predicate mX81_templates mX81_columns mX82_predicate mX82_places) := by
  funext b
  by_cases h : b = a
  · subst h
    rw [va_up_self]
    unfold cVR
    rw [hk]
    simp only [va_up_self]
  · rw [va_up_ne _ _ h]
    unfold cVR
    simp only [va_up_ne _ _ h]
theorem cVR_1_10 {ci : Nat → Nat} {d : Nat → ClassId} {kd : Nat → Nat} {an : Nat → Nat} {ai : Nat → Nat → Int32} {al : Nat → Nat → Int64} {ar : Nat → Nat → Option Nat} {mX32_tables : Nat → Option Nat} {mX32_mappings : Nat → Option Nat} {mX32_mappingCount : Nat → Int32} {mX32_atoms : Nat → Option Nat} {mX32_atomCount : Nat → Int32} {mX32_spanOf : Nat → Option Nat} {mX32_spanFrom : Nat → Option Nat} {mX32_spanTo : Nat → Option Nat} {mX32_spans : Nat → Int32} {mX32_unions : Nat → Option Nat} {mX32_unionCount : Nat → Int32} {mX32_large : Nat → Int32} {mX32_known : Nat → Int32} {mX32_chosen : Nat → Option Nat} {mX32_kinds : Nat → Option Nat} {mX32_given : Nat → Option Nat} {mX32_rowOf : Nat → Option Nat} {mX32_answers : Nat → Option Nat} {mX32_foundBy : Nat → Option Nat} {mX32_firstBy : Nat → Option Nat} {mX32_lastBy : Nat → Option Nat} {mX32_answerCount : Nat → Int32} {mX32_asked : Nat → Int32} {mX32_tooMany : Nat → Int32} {mX33_cells : Nat → Option Nat} {mX33_keys : Nat → Option Nat} {mX33_size : Nat → Int32} {mX34_mappings : Nat → Option Nat} {mX34_slots : Nat → Option Nat} {mX34_slotCount : Nat → Int32} {mX81_table : Nat → Option Nat} {mX81_predicate : Nat → Int32} {mX81_templates : Nat → Option Nat} {mX81_columns : Nat → Option Nat} {mX82_predicate : Nat → Int32} {mX82_places : Nat → Option Nat} {a : Nat} {v : Int32} (hk : kd a = 1) : va_up (cVR ci d kd an ai al ar mX32_tables mX32_mappings mX32_mappingCount mX32_atoms mX32_atomCount mX32_spanOf mX32_spanFrom mX32_spanTo mX32_spans mX32_unions mX32_unionCount mX32_large mX32_known mX32_chosen mX32_kinds mX32_given mX32_rowOf mX32_answers mX32_foundBy mX32_firstBy mX32_lastBy mX32_answerCount mX32_asked mX32_tooMany mX33_cells mX33_keys mX33_size mX34_mappings mX34_slots mX34_slotCount mX81_table mX81_predicate mX81_templates mX81_columns mX82_predicate mX82_places) a (.inr (ci 0, [va_rf (mX32_tables a), va_rf (mX32_mappings a), .int (mX32_mappingCount a), va_rf (mX32_atoms a), .int (mX32_atomCount a), va_rf (mX32_spanOf a), va_rf (mX32_spanFrom a), va_rf (mX32_spanTo a), .int (mX32_spans a), va_rf (mX32_unions a), .int v, .int (mX32_large a), .int (mX32_known a), va_rf (mX32_chosen a), va_rf (mX32_kinds a), va_rf (mX32_given a), va_rf (mX32_rowOf a), va_rf (mX32_answers a), va_rf (mX32_foundBy a), va_rf (mX32_firstBy a), va_rf (mX32_lastBy a), .int (mX32_answerCount a), .int (mX32_asked a), .int (mX32_tooMany a)])) = (cVR ci d kd an ai al ar mX32_tables mX32_mappings mX32_mappingCount mX32_atoms mX32_atomCount mX32_spanOf mX32_spanFrom mX32_spanTo mX32_spans mX32_unions (va_up mX32_unionCount a v) mX32_large mX32_known mX32_chosen mX32_kinds mX32_given mX32_rowOf mX32_answers mX32_foundBy mX32_firstBy mX32_lastBy mX32_answerCount mX32_asked mX32_tooMany mX33_cells mX33_keys mX33_size mX34_mappings mX34_slots mX34_slotCount mX81_table mX81_predicate mX81_templates mX81_columns mX82_predicate mX82_places) := by
  funext b
  by_cases h : b = a
  · subst h
    rw [va_up_self]
    unfold cVR
    rw [hk]
    simp only [va_up_self]
  · rw [va_up_ne _ _ h]
    unfold cVR
    simp only [va_up_ne _ _ h]
theorem cVR_1_11 {ci : Nat → Nat} {d : Nat → ClassId} {kd : Nat → Nat} {an : Nat → Nat} {ai : Nat → Nat → Int32} {al : Nat → Nat → Int64} {ar : Nat → Nat → Option Nat} {mX32_tables : Nat → Option Nat} {mX32_mappings : Nat → Option Nat} {mX32_mappingCount : Nat → Int32} {mX32_atoms : Nat → Option Nat} {mX32_atomCount : Nat → Int32} {mX32_spanOf : Nat → Option Nat} {mX32_spanFrom : Nat → Option Nat} {mX32_spanTo : Nat → Option Nat} {mX32_spans : Nat → Int32} {mX32_unions : Nat → Option Nat} {mX32_unionCount : Nat → Int32} {mX32_large : Nat → Int32} {mX32_known : Nat → Int32} {mX32_chosen : Nat → Option Nat} {mX32_kinds : Nat → Option Nat} {mX32_given : Nat → Option Nat} {mX32_rowOf : Nat → Option Nat} {mX32_answers : Nat → Option Nat} {mX32_foundBy : Nat → Option Nat} {mX32_firstBy : Nat → Option Nat} {mX32_lastBy : Nat → Option Nat} {mX32_answerCount : Nat → Int32} {mX32_asked : Nat → Int32} {mX32_tooMany : Nat → Int32} {mX33_cells : Nat → Option Nat} {mX33_keys : Nat → Option Nat} {mX33_size : Nat → Int32} {mX34_mappings : Nat → Option Nat} {mX34_slots : Nat → Option Nat} {mX34_slotCount : Nat → Int32} {mX81_table : Nat → Option Nat} {mX81_predicate : Nat → Int32} {mX81_templates : Nat → Option Nat} {mX81_columns : Nat → Option Nat} {mX82_predicate : Nat → Int32} {mX82_places : Nat → Option Nat} {a : Nat} {v : Int32} (hk : kd a = 1) : va_up (cVR ci d kd an ai al ar mX32_tables mX32_mappings mX32_mappingCount mX32_atoms mX32_atomCount mX32_spanOf mX32_spanFrom mX32_spanTo mX32_spans mX32_unions mX32_unionCount mX32_large mX32_known mX32_chosen mX32_kinds mX32_given mX32_rowOf mX32_answers mX32_foundBy mX32_firstBy mX32_lastBy mX32_answerCount mX32_asked mX32_tooMany mX33_cells mX33_keys mX33_size mX34_mappings mX34_slots mX34_slotCount mX81_table mX81_predicate mX81_templates mX81_columns mX82_predicate mX82_places) a (.inr (ci 0, [va_rf (mX32_tables a), va_rf (mX32_mappings a), .int (mX32_mappingCount a), va_rf (mX32_atoms a), .int (mX32_atomCount a), va_rf (mX32_spanOf a), va_rf (mX32_spanFrom a), va_rf (mX32_spanTo a), .int (mX32_spans a), va_rf (mX32_unions a), .int (mX32_unionCount a), .int v, .int (mX32_known a), va_rf (mX32_chosen a), va_rf (mX32_kinds a), va_rf (mX32_given a), va_rf (mX32_rowOf a), va_rf (mX32_answers a), va_rf (mX32_foundBy a), va_rf (mX32_firstBy a), va_rf (mX32_lastBy a), .int (mX32_answerCount a), .int (mX32_asked a), .int (mX32_tooMany a)])) = (cVR ci d kd an ai al ar mX32_tables mX32_mappings mX32_mappingCount mX32_atoms mX32_atomCount mX32_spanOf mX32_spanFrom mX32_spanTo mX32_spans mX32_unions mX32_unionCount (va_up mX32_large a v) mX32_known mX32_chosen mX32_kinds mX32_given mX32_rowOf mX32_answers mX32_foundBy mX32_firstBy mX32_lastBy mX32_answerCount mX32_asked mX32_tooMany mX33_cells mX33_keys mX33_size mX34_mappings mX34_slots mX34_slotCount mX81_table mX81_predicate mX81_templates mX81_columns mX82_predicate mX82_places) := by
  funext b
  by_cases h : b = a
  · subst h
    rw [va_up_self]
    unfold cVR
    rw [hk]
    simp only [va_up_self]
  · rw [va_up_ne _ _ h]
    unfold cVR
    simp only [va_up_ne _ _ h]
theorem cVR_1_12 {ci : Nat → Nat} {d : Nat → ClassId} {kd : Nat → Nat} {an : Nat → Nat} {ai : Nat → Nat → Int32} {al : Nat → Nat → Int64} {ar : Nat → Nat → Option Nat} {mX32_tables : Nat → Option Nat} {mX32_mappings : Nat → Option Nat} {mX32_mappingCount : Nat → Int32} {mX32_atoms : Nat → Option Nat} {mX32_atomCount : Nat → Int32} {mX32_spanOf : Nat → Option Nat} {mX32_spanFrom : Nat → Option Nat} {mX32_spanTo : Nat → Option Nat} {mX32_spans : Nat → Int32} {mX32_unions : Nat → Option Nat} {mX32_unionCount : Nat → Int32} {mX32_large : Nat → Int32} {mX32_known : Nat → Int32} {mX32_chosen : Nat → Option Nat} {mX32_kinds : Nat → Option Nat} {mX32_given : Nat → Option Nat} {mX32_rowOf : Nat → Option Nat} {mX32_answers : Nat → Option Nat} {mX32_foundBy : Nat → Option Nat} {mX32_firstBy : Nat → Option Nat} {mX32_lastBy : Nat → Option Nat} {mX32_answerCount : Nat → Int32} {mX32_asked : Nat → Int32} {mX32_tooMany : Nat → Int32} {mX33_cells : Nat → Option Nat} {mX33_keys : Nat → Option Nat} {mX33_size : Nat → Int32} {mX34_mappings : Nat → Option Nat} {mX34_slots : Nat → Option Nat} {mX34_slotCount : Nat → Int32} {mX81_table : Nat → Option Nat} {mX81_predicate : Nat → Int32} {mX81_templates : Nat → Option Nat} {mX81_columns : Nat → Option Nat} {mX82_predicate : Nat → Int32} {mX82_places : Nat → Option Nat} {a : Nat} {v : Int32} (hk : kd a = 1) : va_up (cVR ci d kd an ai al ar mX32_tables mX32_mappings mX32_mappingCount mX32_atoms mX32_atomCount mX32_spanOf mX32_spanFrom mX32_spanTo mX32_spans mX32_unions mX32_unionCount mX32_large mX32_known mX32_chosen mX32_kinds mX32_given mX32_rowOf mX32_answers mX32_foundBy mX32_firstBy mX32_lastBy mX32_answerCount mX32_asked mX32_tooMany mX33_cells mX33_keys mX33_size mX34_mappings mX34_slots mX34_slotCount mX81_table mX81_predicate mX81_templates mX81_columns mX82_predicate mX82_places) a (.inr (ci 0, [va_rf (mX32_tables a), va_rf (mX32_mappings a), .int (mX32_mappingCount a), va_rf (mX32_atoms a), .int (mX32_atomCount a), va_rf (mX32_spanOf a), va_rf (mX32_spanFrom a), va_rf (mX32_spanTo a), .int (mX32_spans a), va_rf (mX32_unions a), .int (mX32_unionCount a), .int (mX32_large a), .int v, va_rf (mX32_chosen a), va_rf (mX32_kinds a), va_rf (mX32_given a), va_rf (mX32_rowOf a), va_rf (mX32_answers a), va_rf (mX32_foundBy a), va_rf (mX32_firstBy a), va_rf (mX32_lastBy a), .int (mX32_answerCount a), .int (mX32_asked a), .int (mX32_tooMany a)])) = (cVR ci d kd an ai al ar mX32_tables mX32_mappings mX32_mappingCount mX32_atoms mX32_atomCount mX32_spanOf mX32_spanFrom mX32_spanTo mX32_spans mX32_unions mX32_unionCount mX32_large (va_up mX32_known a v) mX32_chosen mX32_kinds mX32_given mX32_rowOf mX32_answers mX32_foundBy mX32_firstBy mX32_lastBy mX32_answerCount mX32_asked mX32_tooMany mX33_cells mX33_keys mX33_size mX34_mappings mX34_slots mX34_slotCount mX81_table mX81_predicate mX81_templates mX81_columns mX82_predicate mX82_places) := by
  funext b
  by_cases h : b = a
  · subst h
    rw [va_up_self]
    unfold cVR
    rw [hk]
    simp only [va_up_self]
  · rw [va_up_ne _ _ h]
    unfold cVR
    simp only [va_up_ne _ _ h]
theorem cVR_1_13 {ci : Nat → Nat} {d : Nat → ClassId} {kd : Nat → Nat} {an : Nat → Nat} {ai : Nat → Nat → Int32} {al : Nat → Nat → Int64} {ar : Nat → Nat → Option Nat} {mX32_tables : Nat → Option Nat} {mX32_mappings : Nat → Option Nat} {mX32_mappingCount : Nat → Int32} {mX32_atoms : Nat → Option Nat} {mX32_atomCount : Nat → Int32} {mX32_spanOf : Nat → Option Nat} {mX32_spanFrom : Nat → Option Nat} {mX32_spanTo : Nat → Option Nat} {mX32_spans : Nat → Int32} {mX32_unions : Nat → Option Nat} {mX32_unionCount : Nat → Int32} {mX32_large : Nat → Int32} {mX32_known : Nat → Int32} {mX32_chosen : Nat → Option Nat} {mX32_kinds : Nat → Option Nat} {mX32_given : Nat → Option Nat} {mX32_rowOf : Nat → Option Nat} {mX32_answers : Nat → Option Nat} {mX32_foundBy : Nat → Option Nat} {mX32_firstBy : Nat → Option Nat} {mX32_lastBy : Nat → Option Nat} {mX32_answerCount : Nat → Int32} {mX32_asked : Nat → Int32} {mX32_tooMany : Nat → Int32} {mX33_cells : Nat → Option Nat} {mX33_keys : Nat → Option Nat} {mX33_size : Nat → Int32} {mX34_mappings : Nat → Option Nat} {mX34_slots : Nat → Option Nat} {mX34_slotCount : Nat → Int32} {mX81_table : Nat → Option Nat} {mX81_predicate : Nat → Int32} {mX81_templates : Nat → Option Nat} {mX81_columns : Nat → Option Nat} {mX82_predicate : Nat → Int32} {mX82_places : Nat → Option Nat} {a : Nat} {v : Option Nat} (hk : kd a = 1) : va_up (cVR ci d kd an ai al ar mX32_tables mX32_mappings mX32_mappingCount mX32_atoms mX32_atomCount mX32_spanOf mX32_spanFrom mX32_spanTo mX32_spans mX32_unions mX32_unionCount mX32_large mX32_known mX32_chosen mX32_kinds mX32_given mX32_rowOf mX32_answers mX32_foundBy mX32_firstBy mX32_lastBy mX32_answerCount mX32_asked mX32_tooMany mX33_cells mX33_keys mX33_size mX34_mappings mX34_slots mX34_slotCount mX81_table mX81_predicate mX81_templates mX81_columns mX82_predicate mX82_places) a (.inr (ci 0, [va_rf (mX32_tables a), va_rf (mX32_mappings a), .int (mX32_mappingCount a), va_rf (mX32_atoms a), .int (mX32_atomCount a), va_rf (mX32_spanOf a), va_rf (mX32_spanFrom a), va_rf (mX32_spanTo a), .int (mX32_spans a), va_rf (mX32_unions a), .int (mX32_unionCount a), .int (mX32_large a), .int (mX32_known a), va_rf v, va_rf (mX32_kinds a), va_rf (mX32_given a), va_rf (mX32_rowOf a), va_rf (mX32_answers a), va_rf (mX32_foundBy a), va_rf (mX32_firstBy a), va_rf (mX32_lastBy a), .int (mX32_answerCount a), .int (mX32_asked a), .int (mX32_tooMany a)])) = (cVR ci d kd an ai al ar mX32_tables mX32_mappings mX32_mappingCount mX32_atoms mX32_atomCount mX32_spanOf mX32_spanFrom mX32_spanTo mX32_spans mX32_unions mX32_unionCount mX32_large mX32_known (va_up mX32_chosen a v) mX32_kinds mX32_given mX32_rowOf mX32_answers mX32_foundBy mX32_firstBy mX32_lastBy mX32_answerCount mX32_asked mX32_tooMany mX33_cells mX33_keys mX33_size mX34_mappings mX34_slots mX34_slotCount mX81_table mX81_predicate mX81_templates mX81_columns mX82_predicate mX82_places) := by
  funext b
  by_cases h : b = a
  · subst h
    rw [va_up_self]
    unfold cVR
    rw [hk]
    simp only [va_up_self]
  · rw [va_up_ne _ _ h]
    unfold cVR
    simp only [va_up_ne _ _ h]
theorem cVR_1_14 {ci : Nat → Nat} {d : Nat → ClassId} {kd : Nat → Nat} {an : Nat → Nat} {ai : Nat → Nat → Int32} {al : Nat → Nat → Int64} {ar : Nat → Nat → Option Nat} {mX32_tables : Nat → Option Nat} {mX32_mappings : Nat → Option Nat} {mX32_mappingCount : Nat → Int32} {mX32_atoms : Nat → Option Nat} {mX32_atomCount : Nat → Int32} {mX32_spanOf : Nat → Option Nat} {mX32_spanFrom : Nat → Option Nat} {mX32_spanTo : Nat → Option Nat} {mX32_spans : Nat → Int32} {mX32_unions : Nat → Option Nat} {mX32_unionCount : Nat → Int32} {mX32_large : Nat → Int32} {mX32_known : Nat → Int32} {mX32_chosen : Nat → Option Nat} {mX32_kinds : Nat → Option Nat} {mX32_given : Nat → Option Nat} {mX32_rowOf : Nat → Option Nat} {mX32_answers : Nat → Option Nat} {mX32_foundBy : Nat → Option Nat} {mX32_firstBy : Nat → Option Nat} {mX32_lastBy : Nat → Option Nat} {mX32_answerCount : Nat → Int32} {mX32_asked : Nat → Int32} {mX32_tooMany : Nat → Int32} {mX33_cells : Nat → Option Nat} {mX33_keys : Nat → Option Nat} {mX33_size : Nat → Int32} {mX34_mappings : Nat → Option Nat} {mX34_slots : Nat → Option Nat} {mX34_slotCount : Nat → Int32} {mX81_table : Nat → Option Nat} {mX81_predicate : Nat → Int32} {mX81_templates : Nat → Option Nat} {mX81_columns : Nat → Option Nat} {mX82_predicate : Nat → Int32} {mX82_places : Nat → Option Nat} {a : Nat} {v : Option Nat} (hk : kd a = 1) : va_up (cVR ci d kd an ai al ar mX32_tables mX32_mappings mX32_mappingCount mX32_atoms mX32_atomCount mX32_spanOf mX32_spanFrom mX32_spanTo mX32_spans mX32_unions mX32_unionCount mX32_large mX32_known mX32_chosen mX32_kinds mX32_given mX32_rowOf mX32_answers mX32_foundBy mX32_firstBy mX32_lastBy mX32_answerCount mX32_asked mX32_tooMany mX33_cells mX33_keys mX33_size mX34_mappings mX34_slots mX34_slotCount mX81_table mX81_predicate mX81_templates mX81_columns mX82_predicate mX82_places) a (.inr (ci 0, [va_rf (mX32_tables a), va_rf (mX32_mappings a), .int (mX32_mappingCount a), va_rf (mX32_atoms a), .int (mX32_atomCount a), va_rf (mX32_spanOf a), va_rf (mX32_spanFrom a), va_rf (mX32_spanTo a), .int (mX32_spans a), va_rf (mX32_unions a), .int (mX32_unionCount a), .int (mX32_large a), .int (mX32_known a), va_rf (mX32_chosen a), va_rf v, va_rf (mX32_given a), va_rf (mX32_rowOf a), va_rf (mX32_answers a), va_rf (mX32_foundBy a), va_rf (mX32_firstBy a), va_rf (mX32_lastBy a), .int (mX32_answerCount a), .int (mX32_asked a), .int (mX32_tooMany a)])) = (cVR ci d kd an ai al ar mX32_tables mX32_mappings mX32_mappingCount mX32_atoms mX32_atomCount mX32_spanOf mX32_spanFrom mX32_spanTo mX32_spans mX32_unions mX32_unionCount mX32_large mX32_known mX32_chosen (va_up mX32_kinds a v) mX32_given mX32_rowOf mX32_answers mX32_foundBy mX32_firstBy mX32_lastBy mX32_answerCount mX32_asked mX32_tooMany mX33_cells mX33_keys mX33_size mX34_mappings mX34_slots mX34_slotCount mX81_table mX81_predicate mX81_templates mX81_columns mX82_predicate mX82_places) := by
  funext b
  by_cases h : b = a
  · subst h
    rw [va_up_self]
    unfold cVR
    rw [hk]
    simp only [va_up_self]
  · rw [va_up_ne _ _ h]
    unfold cVR
    simp only [va_up_ne _ _ h]
theorem cVR_1_15 {ci : Nat → Nat} {d : Nat → ClassId} {kd : Nat → Nat} {an : Nat → Nat} {ai : Nat → Nat → Int32} {al : Nat → Nat → Int64} {ar : Nat → Nat → Option Nat} {mX32_tables : Nat → Option Nat} {mX32_mappings : Nat → Option Nat} {mX32_mappingCount : Nat → Int32} {mX32_atoms : Nat → Option Nat} {mX32_atomCount : Nat → Int32} {mX32_spanOf : Nat → Option Nat} {mX32_spanFrom : Nat → Option Nat} {mX32_spanTo : Nat → Option Nat} {mX32_spans : Nat → Int32} {mX32_unions : Nat → Option Nat} {mX32_unionCount : Nat → Int32} {mX32_large : Nat → Int32} {mX32_known : Nat → Int32} {mX32_chosen : Nat → Option Nat} {mX32_kinds : Nat → Option Nat} {mX32_given : Nat → Option Nat} {mX32_rowOf : Nat → Option Nat} {mX32_answers : Nat → Option Nat} {mX32_foundBy : Nat → Option Nat} {mX32_firstBy : Nat → Option Nat} {mX32_lastBy : Nat → Option Nat} {mX32_answerCount : Nat → Int32} {mX32_asked : Nat → Int32} {mX32_tooMany : Nat → Int32} {mX33_cells : Nat → Option Nat} {mX33_keys : Nat → Option Nat} {mX33_size : Nat → Int32} {mX34_mappings : Nat → Option Nat} {mX34_slots : Nat → Option Nat} {mX34_slotCount : Nat → Int32} {mX81_table : Nat → Option Nat} {mX81_predicate : Nat → Int32} {mX81_templates : Nat → Option Nat} {mX81_columns : Nat → Option Nat} {mX82_predicate : Nat → Int32} {mX82_places : Nat → Option Nat} {a : Nat} {v : Option Nat} (hk : kd a = 1) : va_up (cVR ci d kd an ai al ar mX32_tables mX32_mappings mX32_mappingCount mX32_atoms mX32_atomCount mX32_spanOf mX32_spanFrom mX32_spanTo mX32_spans mX32_unions mX32_unionCount mX32_large mX32_known mX32_chosen mX32_kinds mX32_given mX32_rowOf mX32_answers mX32_foundBy mX32_firstBy mX32_lastBy mX32_answerCount mX32_asked mX32_tooMany mX33_cells mX33_keys mX33_size mX34_mappings mX34_slots mX34_slotCount mX81_table mX81_predicate mX81_templates mX81_columns mX82_predicate mX82_places) a (.inr (ci 0, [va_rf (mX32_tables a), va_rf (mX32_mappings a), .int (mX32_mappingCount a), va_rf (mX32_atoms a), .int (mX32_atomCount a), va_rf (mX32_spanOf a), va_rf (mX32_spanFrom a), va_rf (mX32_spanTo a), .int (mX32_spans a), va_rf (mX32_unions a), .int (mX32_unionCount a), .int (mX32_large a), .int (mX32_known a), va_rf (mX32_chosen a), va_rf (mX32_kinds a), va_rf v, va_rf (mX32_rowOf a), va_rf (mX32_answers a), va_rf (mX32_foundBy a), va_rf (mX32_firstBy a), va_rf (mX32_lastBy a), .int (mX32_answerCount a), .int (mX32_asked a), .int (mX32_tooMany a)])) = (cVR ci d kd an ai al ar mX32_tables mX32_mappings mX32_mappingCount mX32_atoms mX32_atomCount mX32_spanOf mX32_spanFrom mX32_spanTo mX32_spans mX32_unions mX32_unionCount mX32_large mX32_known mX32_chosen mX32_kinds (va_up mX32_given a v) mX32_rowOf mX32_answers mX32_foundBy mX32_firstBy mX32_lastBy mX32_answerCount mX32_asked mX32_tooMany mX33_cells mX33_keys mX33_size mX34_mappings mX34_slots mX34_slotCount mX81_table mX81_predicate mX81_templates mX81_columns mX82_predicate mX82_places) := by
  funext b
  by_cases h : b = a
  · subst h
    rw [va_up_self]
    unfold cVR
    rw [hk]
    simp only [va_up_self]
  · rw [va_up_ne _ _ h]
    unfold cVR
    simp only [va_up_ne _ _ h]
theorem cVR_1_16 {ci : Nat → Nat} {d : Nat → ClassId} {kd : Nat → Nat} {an : Nat → Nat} {ai : Nat → Nat → Int32} {al : Nat → Nat → Int64} {ar : Nat → Nat → Option Nat} {mX32_tables : Nat → Option Nat} {mX32_mappings : Nat → Option Nat} {mX32_mappingCount : Nat → Int32} {mX32_atoms : Nat → Option Nat} {mX32_atomCount : Nat → Int32} {mX32_spanOf : Nat → Option Nat} {mX32_spanFrom : Nat → Option Nat} {mX32_spanTo : Nat → Option Nat} {mX32_spans : Nat → Int32} {mX32_unions : Nat → Option Nat} {mX32_unionCount : Nat → Int32} {mX32_large : Nat → Int32} {mX32_known : Nat → Int32} {mX32_chosen : Nat → Option Nat} {mX32_kinds : Nat → Option Nat} {mX32_given : Nat → Option Nat} {mX32_rowOf : Nat → Option Nat} {mX32_answers : Nat → Option Nat} {mX32_foundBy : Nat → Option Nat} {mX32_firstBy : Nat → Option Nat} {mX32_lastBy : Nat → Option Nat} {mX32_answerCount : Nat → Int32} {mX32_asked : Nat → Int32} {mX32_tooMany : Nat → Int32} {mX33_cells : Nat → Option Nat} {mX33_keys : Nat → Option Nat} {mX33_size : Nat → Int32} {mX34_mappings : Nat → Option Nat} {mX34_slots : Nat → Option Nat} {mX34_slotCount : Nat → Int32} {mX81_table : Nat → Option Nat} {mX81_predicate : Nat → Int32} {mX81_templates : Nat → Option Nat} {mX81_columns : Nat → Option Nat} {mX82_predicate : Nat → Int32} {mX82_places : Nat → Option Nat} {a : Nat} {v : Option Nat} (hk : kd a = 1) : va_up (cVR ci d kd an ai al ar mX32_tables mX32_mappings mX32_mappingCount mX32_atoms mX32_atomCount mX32_spanOf mX32_spanFrom mX32_spanTo mX32_spans mX32_unions mX32_unionCount mX32_large mX32_known mX32_chosen mX32_kinds mX32_given mX32_rowOf mX32_answers mX32_foundBy mX32_firstBy mX32_lastBy mX32_answerCount mX32_asked mX32_tooMany mX33_cells mX33_keys mX33_size mX34_mappings mX34_slots mX34_slotCount mX81_table mX81_predicate mX81_templates mX81_columns mX82_predicate mX82_places) a (.inr (ci 0, [va_rf (mX32_tables a), va_rf (mX32_mappings a), .int (mX32_mappingCount a), va_rf (mX32_atoms a), .int (mX32_atomCount a), va_rf (mX32_spanOf a), va_rf (mX32_spanFrom a), va_rf (mX32_spanTo a), .int (mX32_spans a), va_rf (mX32_unions a), .int (mX32_unionCount a), .int (mX32_large a), .int (mX32_known a), va_rf (mX32_chosen a), va_rf (mX32_kinds a), va_rf (mX32_given a), va_rf v, va_rf (mX32_answers a), va_rf (mX32_foundBy a), va_rf (mX32_firstBy a), va_rf (mX32_lastBy a), .int (mX32_answerCount a), .int (mX32_asked a), .int (mX32_tooMany a)])) = (cVR ci d kd an ai al ar mX32_tables mX32_mappings mX32_mappingCount mX32_atoms mX32_atomCount mX32_spanOf mX32_spanFrom mX32_spanTo mX32_spans mX32_unions mX32_unionCount mX32_large mX32_known mX32_chosen mX32_kinds mX32_given (va_up mX32_rowOf a v) mX32_answers mX32_foundBy mX32_firstBy mX32_lastBy mX32_answerCount mX32_asked mX32_tooMany mX33_cells mX33_keys mX33_size mX34_mappings mX34_slots mX34_slotCount mX81_table mX81_predicate mX81_templates mX81_columns mX82_predicate mX82_places) := by
  funext b
  by_cases h : b = a
  · subst h
    rw [va_up_self]
    unfold cVR
    rw [hk]
    simp only [va_up_self]
  · rw [va_up_ne _ _ h]
    unfold cVR
    simp only [va_up_ne _ _ h]
theorem cVR_1_17 {ci : Nat → Nat} {d : Nat → ClassId} {kd : Nat → Nat} {an : Nat → Nat} {ai : Nat → Nat → Int32} {al : Nat → Nat → Int64} {ar : Nat → Nat → Option Nat} {mX32_tables : Nat → Option Nat} {mX32_mappings : Nat → Option Nat} {mX32_mappingCount : Nat → Int32} {mX32_atoms : Nat → Option Nat} {mX32_atomCount : Nat → Int32} {mX32_spanOf : Nat → Option Nat} {mX32_spanFrom : Nat → Option Nat} {mX32_spanTo : Nat → Option Nat} {mX32_spans : Nat → Int32} {mX32_unions : Nat → Option Nat} {mX32_unionCount : Nat → Int32} {mX32_large : Nat → Int32} {mX32_known : Nat → Int32} {mX32_chosen : Nat → Option Nat} {mX32_kinds : Nat → Option Nat} {mX32_given : Nat → Option Nat} {mX32_rowOf : Nat → Option Nat} {mX32_answers : Nat → Option Nat} {mX32_foundBy : Nat → Option Nat} {mX32_firstBy : Nat → Option Nat} {mX32_lastBy : Nat → Option Nat} {mX32_answerCount : Nat → Int32} {mX32_asked : Nat → Int32} {mX32_tooMany : Nat → Int32} {mX33_cells : Nat → Option Nat} {mX33_keys : Nat → Option Nat} {mX33_size : Nat → Int32} {mX34_mappings : Nat → Option Nat} {mX34_slots : Nat → Option Nat} {mX34_slotCount : Nat → Int32} {mX81_table : Nat → Option Nat} {mX81_predicate : Nat → Int32} {mX81_templates : Nat → Option Nat} {mX81_columns : Nat → Option Nat} {mX82_predicate : Nat → Int32} {mX82_places : Nat → Option Nat} {a : Nat} {v : Option Nat} (hk : kd a = 1) : va_up (cVR ci d kd an ai al ar mX32_tables mX32_mappings mX32_mappingCount mX32_atoms mX32_atomCount mX32_spanOf mX32_spanFrom mX32_spanTo mX32_spans mX32_unions mX32_unionCount mX32_large mX32_known mX32_chosen mX32_kinds mX32_given mX32_rowOf mX32_answers mX32_foundBy mX32_firstBy mX32_lastBy mX32_answerCount mX32_asked mX32_tooMany mX33_cells mX33_keys mX33_size mX34_mappings mX34_slots mX34_slotCount mX81_table mX81_predicate mX81_templates mX81_columns mX82_predicate mX82_places) a (.inr (ci 0, [va_rf (mX32_tables a), va_rf (mX32_mappings a), .int (mX32_mappingCount a), va_rf (mX32_atoms a), .int (mX32_atomCount a), va_rf (mX32_spanOf a), va_rf (mX32_spanFrom a), va_rf (mX32_spanTo a), .int (mX32_spans a), va_rf (mX32_unions a), .int (mX32_unionCount a), .int (mX32_large a), .int (mX32_known a), va_rf (mX32_chosen a), va_rf (mX32_kinds a), va_rf (mX32_given a), va_rf (mX32_rowOf a), va_rf v, va_rf (mX32_foundBy a), va_rf (mX32_firstBy a), va_rf (mX32_lastBy a), .int (mX32_answerCount a), .int (mX32_asked a), .int (mX32_tooMany a)])) = (cVR ci d kd an ai al ar mX32_tables mX32_mappings mX32_mappingCount mX32_atoms mX32_atomCount mX32_spanOf mX32_spanFrom mX32_spanTo mX32_spans mX32_unions mX32_unionCount mX32_large mX32_known mX32_chosen mX32_kinds mX32_given mX32_rowOf (va_up mX32_answers a v) mX32_foundBy mX32_firstBy mX32_lastBy mX32_answerCount mX32_asked mX32_tooMany mX33_cells mX33_keys mX33_size mX34_mappings mX34_slots mX34_slotCount mX81_table mX81_predicate mX81_templates mX81_columns mX82_predicate mX82_places) := by
  funext b
  by_cases h : b = a
  · subst h
    rw [va_up_self]
    unfold cVR
    rw [hk]
    simp only [va_up_self]
  · rw [va_up_ne _ _ h]
    unfold cVR
    simp only [va_up_ne _ _ h]
theorem cVR_1_18 {ci : Nat → Nat} {d : Nat → ClassId} {kd : Nat → Nat} {an : Nat → Nat} {ai : Nat → Nat → Int32} {al : Nat → Nat → Int64} {ar : Nat → Nat → Option Nat} {mX32_tables : Nat → Option Nat} {mX32_mappings : Nat → Option Nat} {mX32_mappingCount : Nat → Int32} {mX32_atoms : Nat → Option Nat} {mX32_atomCount : Nat → Int32} {mX32_spanOf : Nat → Option Nat} {mX32_spanFrom : Nat → Option Nat} {mX32_spanTo : Nat → Option Nat} {mX32_spans : Nat → Int32} {mX32_unions : Nat → Option Nat} {mX32_unionCount : Nat → Int32} {mX32_large : Nat → Int32} {mX32_known : Nat → Int32} {mX32_chosen : Nat → Option Nat} {mX32_kinds : Nat → Option Nat} {mX32_given : Nat → Option Nat} {mX32_rowOf : Nat → Option Nat} {mX32_answers : Nat → Option Nat} {mX32_foundBy : Nat → Option Nat} {mX32_firstBy : Nat → Option Nat} {mX32_lastBy : Nat → Option Nat} {mX32_answerCount : Nat → Int32} {mX32_asked : Nat → Int32} {mX32_tooMany : Nat → Int32} {mX33_cells : Nat → Option Nat} {mX33_keys : Nat → Option Nat} {mX33_size : Nat → Int32} {mX34_mappings : Nat → Option Nat} {mX34_slots : Nat → Option Nat} {mX34_slotCount : Nat → Int32} {mX81_table : Nat → Option Nat} {mX81_predicate : Nat → Int32} {mX81_templates : Nat → Option Nat} {mX81_columns : Nat → Option Nat} {mX82_predicate : Nat → Int32} {mX82_places : Nat → Option Nat} {a : Nat} {v : Option Nat} (hk : kd a = 1) : va_up (cVR ci d kd an ai al ar mX32_tables mX32_mappings mX32_mappingCount mX32_atoms mX32_atomCount mX32_spanOf mX32_spanFrom mX32_spanTo mX32_spans mX32_unions mX32_unionCount mX32_large mX32_known mX32_chosen mX32_kinds mX32_given mX32_rowOf mX32_answers mX32_foundBy mX32_firstBy mX32_lastBy mX32_answerCount mX32_asked mX32_tooMany mX33_cells mX33_keys mX33_size mX34_mappings mX34_slots mX34_slotCount mX81_table mX81_predicate mX81_templates mX81_columns mX82_predicate mX82_places) a (.inr (ci 0, [va_rf (mX32_tables a), va_rf (mX32_mappings a), .int (mX32_mappingCount a), va_rf (mX32_atoms a), .int (mX32_atomCount a), va_rf (mX32_spanOf a), va_rf (mX32_spanFrom a), va_rf (mX32_spanTo a), .int (mX32_spans a), va_rf (mX32_unions a), .int (mX32_unionCount a), .int (mX32_large a), .int (mX32_known a), va_rf (mX32_chosen a), va_rf (mX32_kinds a), va_rf (mX32_given a), va_rf (mX32_rowOf a), va_rf (mX32_answers a), va_rf v, va_rf (mX32_firstBy a), va_rf (mX32_lastBy a), .int (mX32_answerCount a), .int (mX32_asked a), .int (mX32_tooMany a)])) = (cVR ci d kd an ai al ar mX32_tables mX32_mappings mX32_mappingCount mX32_atoms mX32_atomCount mX32_spanOf mX32_spanFrom mX32_spanTo mX32_spans mX32_unions mX32_unionCount mX32_large mX32_known mX32_chosen mX32_kinds mX32_given mX32_rowOf mX32_answers (va_up mX32_foundBy a v) mX32_firstBy mX32_lastBy mX32_answerCount mX32_asked mX32_tooMany mX33_cells mX33_keys mX33_size mX34_mappings mX34_slots mX34_slotCount mX81_table mX81_predicate mX81_templates mX81_columns mX82_predicate mX82_places) := by
  funext b
  by_cases h : b = a
  · subst h
    rw [va_up_self]
    unfold cVR
    rw [hk]
    simp only [va_up_self]
  · rw [va_up_ne _ _ h]
    unfold cVR
    simp only [va_up_ne _ _ h]
theorem cVR_1_19 {ci : Nat → Nat} {d : Nat → ClassId} {kd : Nat → Nat} {an : Nat → Nat} {ai : Nat → Nat → Int32} {al : Nat → Nat → Int64} {ar : Nat → Nat → Option Nat} {mX32_tables : Nat → Option Nat} {mX32_mappings : Nat → Option Nat} {mX32_mappingCount : Nat → Int32} {mX32_atoms : Nat → Option Nat} {mX32_atomCount : Nat → Int32} {mX32_spanOf : Nat → Option Nat} {mX32_spanFrom : Nat → Option Nat} {mX32_spanTo : Nat → Option Nat} {mX32_spans : Nat → Int32} {mX32_unions : Nat → Option Nat} {mX32_unionCount : Nat → Int32} {mX32_large : Nat → Int32} {mX32_known : Nat → Int32} {mX32_chosen : Nat → Option Nat} {mX32_kinds : Nat → Option Nat} {mX32_given : Nat → Option Nat} {mX32_rowOf : Nat → Option Nat} {mX32_answers : Nat → Option Nat} {mX32_foundBy : Nat → Option Nat} {mX32_firstBy : Nat → Option Nat} {mX32_lastBy : Nat → Option Nat} {mX32_answerCount : Nat → Int32} {mX32_asked : Nat → Int32} {mX32_tooMany : Nat → Int32} {mX33_cells : Nat → Option Nat} {mX33_keys : Nat → Option Nat} {mX33_size : Nat → Int32} {mX34_mappings : Nat → Option Nat} {mX34_slots : Nat → Option Nat} {mX34_slotCount : Nat → Int32} {mX81_table : Nat → Option Nat} {mX81_predicate : Nat → Int32} {mX81_templates : Nat → Option Nat} {mX81_columns : Nat → Option Nat} {mX82_predicate : Nat → Int32} {mX82_places : Nat → Option Nat} {a : Nat} {v : Option Nat} (hk : kd a = 1) : va_up (cVR ci d kd an ai al ar mX32_tables mX32_mappings mX32_mappingCount mX32_atoms mX32_atomCount mX32_spanOf mX32_spanFrom mX32_spanTo mX32_spans mX32_unions mX32_unionCount mX32_large mX32_known mX32_chosen mX32_kinds mX32_given mX32_rowOf mX32_answers mX32_foundBy mX32_firstBy mX32_lastBy mX32_answerCount mX32_asked mX32_tooMany mX33_cells mX33_keys mX33_size mX34_mappings mX34_slots mX34_slotCount mX81_table mX81_predicate mX81_templates mX81_columns mX82_predicate mX82_places) a (.inr (ci 0, [va_rf (mX32_tables a), va_rf (mX32_mappings a), .int (mX32_mappingCount a), va_rf (mX32_atoms a), .int (mX32_atomCount a), va_rf (mX32_spanOf a), va_rf (mX32_spanFrom a), va_rf (mX32_spanTo a), .int (mX32_spans a), va_rf (mX32_unions a), .int (mX32_unionCount a), .int (mX32_large a), .int (mX32_known a), va_rf (mX32_chosen a), va_rf (mX32_kinds a), va_rf (mX32_given a), va_rf (mX32_rowOf a), va_rf (mX32_answers a), va_rf (mX32_foundBy a), va_rf v, va_rf (mX32_lastBy a), .int (mX32_answerCount a), .int (mX32_asked a), .int (mX32_tooMany a)])) = (cVR ci d kd an ai al ar mX32_tables mX32_mappings mX32_mappingCount mX32_atoms mX32_atomCount mX32_spanOf mX32_spanFrom mX32_spanTo mX32_spans mX32_unions mX32_unionCount mX32_large mX32_known mX32_chosen mX32_kinds mX32_given mX32_rowOf mX32_answers mX32_foundBy (va_up mX32_firstBy a v) mX32_lastBy mX32_answerCount mX32_asked mX32_tooMany mX33_cells mX33_keys mX33_size mX34_mappings mX34_slots mX34_slotCount mX81_table mX81_predicate mX81_templates mX81_columns mX82_predicate mX82_places) := by
  funext b
  by_cases h : b = a
  · subst h
    rw [va_up_self]
    unfold cVR
    rw [hk]
    simp only [va_up_self]
  · rw [va_up_ne _ _ h]
    unfold cVR
    simp only [va_up_ne _ _ h]
theorem cVR_1_20 {ci : Nat → Nat} {d : Nat → ClassId} {kd : Nat → Nat} {an : Nat → Nat} {ai : Nat → Nat → Int32} {al : Nat → Nat → Int64} {ar : Nat → Nat → Option Nat} {mX32_tables : Nat → Option Nat} {mX32_mappings : Nat → Option Nat} {mX32_mappingCount : Nat → Int32} {mX32_atoms : Nat → Option Nat} {mX32_atomCount : Nat → Int32} {mX32_spanOf : Nat → Option Nat} {mX32_spanFrom : Nat → Option Nat} {mX32_spanTo : Nat → Option Nat} {mX32_spans : Nat → Int32} {mX32_unions : Nat → Option Nat} {mX32_unionCount : Nat → Int32} {mX32_large : Nat → Int32} {mX32_known : Nat → Int32} {mX32_chosen : Nat → Option Nat} {mX32_kinds : Nat → Option Nat} {mX32_given : Nat → Option Nat} {mX32_rowOf : Nat → Option Nat} {mX32_answers : Nat → Option Nat} {mX32_foundBy : Nat → Option Nat} {mX32_firstBy : Nat → Option Nat} {mX32_lastBy : Nat → Option Nat} {mX32_answerCount : Nat → Int32} {mX32_asked : Nat → Int32} {mX32_tooMany : Nat → Int32} {mX33_cells : Nat → Option Nat} {mX33_keys : Nat → Option Nat} {mX33_size : Nat → Int32} {mX34_mappings : Nat → Option Nat} {mX34_slots : Nat → Option Nat} {mX34_slotCount : Nat → Int32} {mX81_table : Nat → Option Nat} {mX81_predicate : Nat → Int32} {mX81_templates : Nat → Option Nat} {mX81_columns : Nat → Option Nat} {mX82_predicate : Nat → Int32} {mX82_places : Nat → Option Nat} {a : Nat} {v : Option Nat} (hk : kd a = 1) : va_up (cVR ci d kd an ai al ar mX32_tables mX32_mappings mX32_mappingCount mX32_atoms mX32_atomCount mX32_spanOf mX32_spanFrom mX32_spanTo mX32_spans mX32_unions mX32_unionCount mX32_large mX32_known mX32_chosen mX32_kinds mX32_given mX32_rowOf mX32_answers mX32_foundBy mX32_firstBy mX32_lastBy mX32_answerCount mX32_asked mX32_tooMany mX33_cells mX33_keys mX33_size mX34_mappings mX34_slots mX34_slotCount mX81_table mX81_predicate mX81_templates mX81_columns mX82_predicate mX82_places) a (.inr (ci 0, [va_rf (mX32_tables a), va_rf (mX32_mappings a), .int (mX32_mappingCount a), va_rf (mX32_atoms a), .int (mX32_atomCount a), va_rf (mX32_spanOf a), va_rf (mX32_spanFrom a), va_rf (mX32_spanTo a), .int (mX32_spans a), va_rf (mX32_unions a), .int (mX32_unionCount a), .int (mX32_large a), .int (mX32_known a), va_rf (mX32_chosen a), va_rf (mX32_kinds a), va_rf (mX32_given a), va_rf (mX32_rowOf a), va_rf (mX32_answers a), va_rf (mX32_foundBy a), va_rf (mX32_firstBy a), va_rf v, .int (mX32_answerCount a), .int (mX32_asked a), .int (mX32_tooMany a)])) = (cVR ci d kd an ai al ar mX32_tables mX32_mappings mX32_mappingCount mX32_atoms mX32_atomCount mX32_spanOf mX32_spanFrom mX32_spanTo mX32_spans mX32_unions mX32_unionCount mX32_large mX32_known mX32_chosen mX32_kinds mX32_given mX32_rowOf mX32_answers mX32_foundBy mX32_firstBy (va_up mX32_lastBy a v) mX32_answerCount mX32_asked mX32_tooMany mX33_cells mX33_keys mX33_size mX34_mappings mX34_slots mX34_slotCount mX81_table mX81_predicate mX81_templates mX81_columns mX82_predicate mX82_places) := by
  funext b
  by_cases h : b = a
  · subst h
    rw [va_up_self]
    unfold cVR
    rw [hk]
    simp only [va_up_self]
  · rw [va_up_ne _ _ h]
    unfold cVR
    simp only [va_up_ne _ _ h]
theorem cVR_1_21 {ci : Nat → Nat} {d : Nat → ClassId} {kd : Nat → Nat} {an : Nat → Nat} {ai : Nat → Nat → Int32} {al : Nat → Nat → Int64} {ar : Nat → Nat → Option Nat} {mX32_tables : Nat → Option Nat} {mX32_mappings : Nat → Option Nat} {mX32_mappingCount : Nat → Int32} {mX32_atoms : Nat → Option Nat} {mX32_atomCount : Nat → Int32} {mX32_spanOf : Nat → Option Nat} {mX32_spanFrom : Nat → Option Nat} {mX32_spanTo : Nat → Option Nat} {mX32_spans : Nat → Int32} {mX32_unions : Nat → Option Nat} {mX32_unionCount : Nat → Int32} {mX32_large : Nat → Int32} {mX32_known : Nat → Int32} {mX32_chosen : Nat → Option Nat} {mX32_kinds : Nat → Option Nat} {mX32_given : Nat → Option Nat} {mX32_rowOf : Nat → Option Nat} {mX32_answers : Nat → Option Nat} {mX32_foundBy : Nat → Option Nat} {mX32_firstBy : Nat → Option Nat} {mX32_lastBy : Nat → Option Nat} {mX32_answerCount : Nat → Int32} {mX32_asked : Nat → Int32} {mX32_tooMany : Nat → Int32} {mX33_cells : Nat → Option Nat} {mX33_keys : Nat → Option Nat} {mX33_size : Nat → Int32} {mX34_mappings : Nat → Option Nat} {mX34_slots : Nat → Option Nat} {mX34_slotCount : Nat → Int32} {mX81_table : Nat → Option Nat} {mX81_predicate : Nat → Int32} {mX81_templates : Nat → Option Nat} {mX81_columns : Nat → Option Nat} {mX82_predicate : Nat → Int32} {mX82_places : Nat → Option Nat} {a : Nat} {v : Int32} (hk : kd a = 1) : va_up (cVR ci d kd an ai al ar mX32_tables mX32_mappings mX32_mappingCount mX32_atoms mX32_atomCount mX32_spanOf mX32_spanFrom mX32_spanTo mX32_spans mX32_unions mX32_unionCount mX32_large mX32_known mX32_chosen mX32_kinds mX32_given mX32_rowOf mX32_answers mX32_foundBy mX32_firstBy mX32_lastBy mX32_answerCount mX32_asked mX32_tooMany mX33_cells mX33_keys mX33_size mX34_mappings mX34_slots mX34_slotCount mX81_table mX81_predicate mX81_templates mX81_columns mX82_predicate mX82_places) a (.inr (ci 0, [va_rf (mX32_tables a), va_rf (mX32_mappings a), .int (mX32_mappingCount a), va_rf (mX32_atoms a), .int (mX32_atomCount a), va_rf (mX32_spanOf a), va_rf (mX32_spanFrom a), va_rf (mX32_spanTo a), .int (mX32_spans a), va_rf (mX32_unions a), .int (mX32_unionCount a), .int (mX32_large a), .int (mX32_known a), va_rf (mX32_chosen a), va_rf (mX32_kinds a), va_rf (mX32_given a), va_rf (mX32_rowOf a), va_rf (mX32_answers a), va_rf (mX32_foundBy a), va_rf (mX32_firstBy a), va_rf (mX32_lastBy a), .int v, .int (mX32_asked a), .int (mX32_tooMany a)])) = (cVR ci d kd an ai al ar mX32_tables mX32_mappings mX32_mappingCount mX32_atoms mX32_atomCount mX32_spanOf mX32_spanFrom mX32_spanTo mX32_spans mX32_unions mX32_unionCount mX32_large mX32_known mX32_chosen mX32_kinds mX32_given mX32_rowOf mX32_answers mX32_foundBy mX32_firstBy mX32_lastBy (va_up mX32_answerCount a v) mX32_asked mX32_tooMany mX33_cells mX33_keys mX33_size mX34_mappings mX34_slots mX34_slotCount mX81_table mX81_predicate mX81_templates mX81_columns mX82_predicate mX82_places) := by
  funext b
  by_cases h : b = a
  · subst h
    rw [va_up_self]
    unfold cVR
    rw [hk]
    simp only [va_up_self]
  · rw [va_up_ne _ _ h]
    unfold cVR
    simp only [va_up_ne _ _ h]
theorem cVR_1_22 {ci : Nat → Nat} {d : Nat → ClassId} {kd : Nat → Nat} {an : Nat → Nat} {ai : Nat → Nat → Int32} {al : Nat → Nat → Int64} {ar : Nat → Nat → Option Nat} {mX32_tables : Nat → Option Nat} {mX32_mappings : Nat → Option Nat} {mX32_mappingCount : Nat → Int32} {mX32_atoms : Nat → Option Nat} {mX32_atomCount : Nat → Int32} {mX32_spanOf : Nat → Option Nat} {mX32_spanFrom : Nat → Option Nat} {mX32_spanTo : Nat → Option Nat} {mX32_spans : Nat → Int32} {mX32_unions : Nat → Option Nat} {mX32_unionCount : Nat → Int32} {mX32_large : Nat → Int32} {mX32_known : Nat → Int32} {mX32_chosen : Nat → Option Nat} {mX32_kinds : Nat → Option Nat} {mX32_given : Nat → Option Nat} {mX32_rowOf : Nat → Option Nat} {mX32_answers : Nat → Option Nat} {mX32_foundBy : Nat → Option Nat} {mX32_firstBy : Nat → Option Nat} {mX32_lastBy : Nat → Option Nat} {mX32_answerCount : Nat → Int32} {mX32_asked : Nat → Int32} {mX32_tooMany : Nat → Int32} {mX33_cells : Nat → Option Nat} {mX33_keys : Nat → Option Nat} {mX33_size : Nat → Int32} {mX34_mappings : Nat → Option Nat} {mX34_slots : Nat → Option Nat} {mX34_slotCount : Nat → Int32} {mX81_table : Nat → Option Nat} {mX81_predicate : Nat → Int32} {mX81_templates : Nat → Option Nat} {mX81_columns : Nat → Option Nat} {mX82_predicate : Nat → Int32} {mX82_places : Nat → Option Nat} {a : Nat} {v : Int32} (hk : kd a = 1) : va_up (cVR ci d kd an ai al ar mX32_tables mX32_mappings mX32_mappingCount mX32_atoms mX32_atomCount mX32_spanOf mX32_spanFrom mX32_spanTo mX32_spans mX32_unions mX32_unionCount mX32_large mX32_known mX32_chosen mX32_kinds mX32_given mX32_rowOf mX32_answers mX32_foundBy mX32_firstBy mX32_lastBy mX32_answerCount mX32_asked mX32_tooMany mX33_cells mX33_keys mX33_size mX34_mappings mX34_slots mX34_slotCount mX81_table mX81_predicate mX81_templates mX81_columns mX82_predicate mX82_places) a (.inr (ci 0, [va_rf (mX32_tables a), va_rf (mX32_mappings a), .int (mX32_mappingCount a), va_rf (mX32_atoms a), .int (mX32_atomCount a), va_rf (mX32_spanOf a), va_rf (mX32_spanFrom a), va_rf (mX32_spanTo a), .int (mX32_spans a), va_rf (mX32_unions a), .int (mX32_unionCount a), .int (mX32_large a), .int (mX32_known a), va_rf (mX32_chosen a), va_rf (mX32_kinds a), va_rf (mX32_given a), va_rf (mX32_rowOf a), va_rf (mX32_answers a), va_rf (mX32_foundBy a), va_rf (mX32_firstBy a), va_rf (mX32_lastBy a), .int (mX32_answerCount a), .int v, .int (mX32_tooMany a)])) = (cVR ci d kd an ai al ar mX32_tables mX32_mappings mX32_mappingCount mX32_atoms mX32_atomCount mX32_spanOf mX32_spanFrom mX32_spanTo mX32_spans mX32_unions mX32_unionCount mX32_large mX32_known mX32_chosen mX32_kinds mX32_given mX32_rowOf mX32_answers mX32_foundBy mX32_firstBy mX32_lastBy mX32_answerCount (va_up mX32_asked a v) mX32_tooMany mX33_cells mX33_keys mX33_size mX34_mappings mX34_slots mX34_slotCount mX81_table mX81_predicate mX81_templates mX81_columns mX82_predicate mX82_places) := by
  funext b
  by_cases h : b = a
  · subst h
    rw [va_up_self]
    unfold cVR
    rw [hk]
    simp only [va_up_self]
  · rw [va_up_ne _ _ h]
    unfold cVR
    simp only [va_up_ne _ _ h]
theorem cVR_1_23 {ci : Nat → Nat} {d : Nat → ClassId} {kd : Nat → Nat} {an : Nat → Nat} {ai : Nat → Nat → Int32} {al : Nat → Nat → Int64} {ar : Nat → Nat → Option Nat} {mX32_tables : Nat → Option Nat} {mX32_mappings : Nat → Option Nat} {mX32_mappingCount : Nat → Int32} {mX32_atoms : Nat → Option Nat} {mX32_atomCount : Nat → Int32} {mX32_spanOf : Nat → Option Nat} {mX32_spanFrom : Nat → Option Nat} {mX32_spanTo : Nat → Option Nat} {mX32_spans : Nat → Int32} {mX32_unions : Nat → Option Nat} {mX32_unionCount : Nat → Int32} {mX32_large : Nat → Int32} {mX32_known : Nat → Int32} {mX32_chosen : Nat → Option Nat} {mX32_kinds : Nat → Option Nat} {mX32_given : Nat → Option Nat} {mX32_rowOf : Nat → Option Nat} {mX32_answers : Nat → Option Nat} {mX32_foundBy : Nat → Option Nat} {mX32_firstBy : Nat → Option Nat} {mX32_lastBy : Nat → Option Nat} {mX32_answerCount : Nat → Int32} {mX32_asked : Nat → Int32} {mX32_tooMany : Nat → Int32} {mX33_cells : Nat → Option Nat} {mX33_keys : Nat → Option Nat} {mX33_size : Nat → Int32} {mX34_mappings : Nat → Option Nat} {mX34_slots : Nat → Option Nat} {mX34_slotCount : Nat → Int32} {mX81_table : Nat → Option Nat} {mX81_predicate : Nat → Int32} {mX81_templates : Nat → Option Nat} {mX81_columns : Nat → Option Nat} {mX82_predicate : Nat → Int32} {mX82_places : Nat → Option Nat} {a : Nat} {v : Int32} (hk : kd a = 1) : va_up (cVR ci d kd an ai al ar mX32_tables mX32_mappings mX32_mappingCount mX32_atoms mX32_atomCount mX32_spanOf mX32_spanFrom mX32_spanTo mX32_spans mX32_unions mX32_unionCount mX32_large mX32_known mX32_chosen mX32_kinds mX32_given mX32_rowOf mX32_answers mX32_foundBy mX32_firstBy mX32_lastBy mX32_answerCount mX32_asked mX32_tooMany mX33_cells mX33_keys mX33_size mX34_mappings mX34_slots mX34_slotCount mX81_table mX81_predicate mX81_templates mX81_columns mX82_predicate mX82_places) a (.inr (ci 0, [va_rf (mX32_tables a), va_rf (mX32_mappings a), .int (mX32_mappingCount a), va_rf (mX32_atoms a), .int (mX32_atomCount a), va_rf (mX32_spanOf a), va_rf (mX32_spanFrom a), va_rf (mX32_spanTo a), .int (mX32_spans a), va_rf (mX32_unions a), .int (mX32_unionCount a), .int (mX32_large a), .int (mX32_known a), va_rf (mX32_chosen a), va_rf (mX32_kinds a), va_rf (mX32_given a), va_rf (mX32_rowOf a), va_rf (mX32_answers a), va_rf (mX32_foundBy a), va_rf (mX32_firstBy a), va_rf (mX32_lastBy a), .int (mX32_answerCount a), .int (mX32_asked a), .int v])) = (cVR ci d kd an ai al ar mX32_tables mX32_mappings mX32_mappingCount mX32_atoms mX32_atomCount mX32_spanOf mX32_spanFrom mX32_spanTo mX32_spans mX32_unions mX32_unionCount mX32_large mX32_known mX32_chosen mX32_kinds mX32_given mX32_rowOf mX32_answers mX32_foundBy mX32_firstBy mX32_lastBy mX32_answerCount mX32_asked (va_up mX32_tooMany a v) mX33_cells mX33_keys mX33_size mX34_mappings mX34_slots mX34_slotCount mX81_table mX81_predicate mX81_templates mX81_columns mX82_predicate mX82_places) := by
  funext b
  by_cases h : b = a
  · subst h
    rw [va_up_self]
    unfold cVR
    rw [hk]
    simp only [va_up_self]
  · rw [va_up_ne _ _ h]
    unfold cVR
    simp only [va_up_ne _ _ h]
theorem cVR_1_n {ci : Nat → Nat} {d : Nat → ClassId} {kd : Nat → Nat} {an : Nat → Nat} {ai : Nat → Nat → Int32} {al : Nat → Nat → Int64} {ar : Nat → Nat → Option Nat} {mX32_tables : Nat → Option Nat} {mX32_mappings : Nat → Option Nat} {mX32_mappingCount : Nat → Int32} {mX32_atoms : Nat → Option Nat} {mX32_atomCount : Nat → Int32} {mX32_spanOf : Nat → Option Nat} {mX32_spanFrom : Nat → Option Nat} {mX32_spanTo : Nat → Option Nat} {mX32_spans : Nat → Int32} {mX32_unions : Nat → Option Nat} {mX32_unionCount : Nat → Int32} {mX32_large : Nat → Int32} {mX32_known : Nat → Int32} {mX32_chosen : Nat → Option Nat} {mX32_kinds : Nat → Option Nat} {mX32_given : Nat → Option Nat} {mX32_rowOf : Nat → Option Nat} {mX32_answers : Nat → Option Nat} {mX32_foundBy : Nat → Option Nat} {mX32_firstBy : Nat → Option Nat} {mX32_lastBy : Nat → Option Nat} {mX32_answerCount : Nat → Int32} {mX32_asked : Nat → Int32} {mX32_tooMany : Nat → Int32} {mX33_cells : Nat → Option Nat} {mX33_keys : Nat → Option Nat} {mX33_size : Nat → Int32} {mX34_mappings : Nat → Option Nat} {mX34_slots : Nat → Option Nat} {mX34_slotCount : Nat → Int32} {mX81_table : Nat → Option Nat} {mX81_predicate : Nat → Int32} {mX81_templates : Nat → Option Nat} {mX81_columns : Nat → Option Nat} {mX82_predicate : Nat → Int32} {mX82_places : Nat → Option Nat} (q : Nat) : va_up (cVR ci d kd an ai al ar mX32_tables mX32_mappings mX32_mappingCount mX32_atoms mX32_atomCount mX32_spanOf mX32_spanFrom mX32_spanTo mX32_spans mX32_unions mX32_unionCount mX32_large mX32_known mX32_chosen mX32_kinds mX32_given mX32_rowOf mX32_answers mX32_foundBy mX32_firstBy mX32_lastBy mX32_answerCount mX32_asked mX32_tooMany mX33_cells mX33_keys mX33_size mX34_mappings mX34_slots mX34_slotCount mX81_table mX81_predicate mX81_templates mX81_columns mX82_predicate mX82_places) q (.inr (ci 0, [va_rf none, va_rf none, .int 0, va_rf none, .int 0, va_rf none, va_rf none, va_rf none, .int 0, va_rf none, .int 0, .int 0, .int 0, va_rf none, va_rf none, va_rf none, va_rf none, va_rf none, va_rf none, va_rf none, va_rf none, .int 0, .int 0, .int 0])) = (cVR ci d (va_up kd q 1) an ai al ar (va_up mX32_tables q none) (va_up mX32_mappings q none) (va_up mX32_mappingCount q 0) (va_up mX32_atoms q none) (va_up mX32_atomCount q 0) (va_up mX32_spanOf q none) (va_up mX32_spanFrom q none) (va_up mX32_spanTo q none) (va_up mX32_spans q 0) (va_up mX32_unions q none) (va_up mX32_unionCount q 0) (va_up mX32_large q 0) (va_up mX32_known q 0) (va_up mX32_chosen q none) (va_up mX32_kinds q none) (va_up mX32_given q none) (va_up mX32_rowOf q none) (va_up mX32_answers q none) (va_up mX32_foundBy q none) (va_up mX32_firstBy q none) (va_up mX32_lastBy q none) (va_up mX32_answerCount q 0) (va_up mX32_asked q 0) (va_up mX32_tooMany q 0) mX33_cells mX33_keys mX33_size mX34_mappings mX34_slots mX34_slotCount mX81_table mX81_predicate mX81_templates mX81_columns mX82_predicate mX82_places) := by
  funext b
  by_cases h : b = q
  · subst h
    rw [va_up_self]
    unfold cVR
    simp only [va_up_self]
  · rw [va_up_ne _ _ h]
    unfold cVR
    simp only [va_up_ne _ _ h]
theorem cVR_2 {ci : Nat → Nat} {d : Nat → ClassId} {kd : Nat → Nat} {an : Nat → Nat} {ai : Nat → Nat → Int32} {al : Nat → Nat → Int64} {ar : Nat → Nat → Option Nat} {mX32_tables : Nat → Option Nat} {mX32_mappings : Nat → Option Nat} {mX32_mappingCount : Nat → Int32} {mX32_atoms : Nat → Option Nat} {mX32_atomCount : Nat → Int32} {mX32_spanOf : Nat → Option Nat} {mX32_spanFrom : Nat → Option Nat} {mX32_spanTo : Nat → Option Nat} {mX32_spans : Nat → Int32} {mX32_unions : Nat → Option Nat} {mX32_unionCount : Nat → Int32} {mX32_large : Nat → Int32} {mX32_known : Nat → Int32} {mX32_chosen : Nat → Option Nat} {mX32_kinds : Nat → Option Nat} {mX32_given : Nat → Option Nat} {mX32_rowOf : Nat → Option Nat} {mX32_answers : Nat → Option Nat} {mX32_foundBy : Nat → Option Nat} {mX32_firstBy : Nat → Option Nat} {mX32_lastBy : Nat → Option Nat} {mX32_answerCount : Nat → Int32} {mX32_asked : Nat → Int32} {mX32_tooMany : Nat → Int32} {mX33_cells : Nat → Option Nat} {mX33_keys : Nat → Option Nat} {mX33_size : Nat → Int32} {mX34_mappings : Nat → Option Nat} {mX34_slots : Nat → Option Nat} {mX34_slotCount : Nat → Int32} {mX81_table : Nat → Option Nat} {mX81_predicate : Nat → Int32} {mX81_templates : Nat → Option Nat} {mX81_columns : Nat → Option Nat} {mX82_predicate : Nat → Int32} {mX82_places : Nat → Option Nat} {a : Nat} (hk : kd a = 2) : (cVR ci d kd an ai al ar mX32_tables mX32_mappings mX32_mappingCount mX32_atoms mX32_atomCount mX32_spanOf mX32_spanFrom mX32_spanTo mX32_spans mX32_unions mX32_unionCount mX32_large mX32_known mX32_chosen mX32_kinds mX32_given mX32_rowOf mX32_answers mX32_foundBy mX32_firstBy mX32_lastBy mX32_answerCount mX32_asked mX32_tooMany mX33_cells mX33_keys mX33_size mX34_mappings mX34_slots mX34_slotCount mX81_table mX81_predicate mX81_templates mX81_columns mX82_predicate mX82_places) a = .inr (ci 1, [va_rf (mX33_cells a), va_rf (mX33_keys a), .int (mX33_size a)]) := by unfold cVR; simp only [hk]
theorem cVR_2_0 {ci : Nat → Nat} {d : Nat → ClassId} {kd : Nat → Nat} {an : Nat → Nat} {ai : Nat → Nat → Int32} {al : Nat → Nat → Int64} {ar : Nat → Nat → Option Nat} {mX32_tables : Nat → Option Nat} {mX32_mappings : Nat → Option Nat} {mX32_mappingCount : Nat → Int32} {mX32_atoms : Nat → Option Nat} {mX32_atomCount : Nat → Int32} {mX32_spanOf : Nat → Option Nat} {mX32_spanFrom : Nat → Option Nat} {mX32_spanTo : Nat → Option Nat} {mX32_spans : Nat → Int32} {mX32_unions : Nat → Option Nat} {mX32_unionCount : Nat → Int32} {mX32_large : Nat → Int32} {mX32_known : Nat → Int32} {mX32_chosen : Nat → Option Nat} {mX32_kinds : Nat → Option Nat} {mX32_given : Nat → Option Nat} {mX32_rowOf : Nat → Option Nat} {mX32_answers : Nat → Option Nat} {mX32_foundBy : Nat → Option Nat} {mX32_firstBy : Nat → Option Nat} {mX32_lastBy : Nat → Option Nat} {mX32_answerCount : Nat → Int32} {mX32_asked : Nat → Int32} {mX32_tooMany : Nat → Int32} {mX33_cells : Nat → Option Nat} {mX33_keys : Nat → Option Nat} {mX33_size : Nat → Int32} {mX34_mappings : Nat → Option Nat} {mX34_slots : Nat → Option Nat} {mX34_slotCount : Nat → Int32} {mX81_table : Nat → Option Nat} {mX81_predicate : Nat → Int32} {mX81_templates : Nat → Option Nat} {mX81_columns : Nat → Option Nat} {mX82_predicate : Nat → Int32} {mX82_places : Nat → Option Nat} {a : Nat} {v : Option Nat} (hk : kd a = 2) : va_up (cVR ci d kd an ai al ar mX32_tables mX32_mappings mX32_mappingCount mX32_atoms mX32_atomCount mX32_spanOf mX32_spanFrom mX32_spanTo mX32_spans mX32_unions mX32_unionCount mX32_large mX32_known mX32_chosen mX32_kinds mX32_given mX32_rowOf mX32_answers mX32_foundBy mX32_firstBy mX32_lastBy mX32_answerCount mX32_asked mX32_tooMany mX33_cells mX33_keys mX33_size mX34_mappings mX34_slots mX34_slotCount mX81_table mX81_predicate mX81_templates mX81_columns mX82_predicate mX82_places) a (.inr (ci 1, [va_rf v, va_rf (mX33_keys a), .int (mX33_size a)])) = (cVR ci d kd an ai al ar mX32_tables mX32_mappings mX32_mappingCount mX32_atoms mX32_atomCount mX32_spanOf mX32_spanFrom mX32_spanTo mX32_spans mX32_unions mX32_unionCount mX32_large mX32_known mX32_chosen mX32_kinds mX32_given mX32_rowOf mX32_answers mX32_foundBy mX32_firstBy mX32_lastBy mX32_answerCount mX32_asked mX32_tooMany (va_up mX33_cells a v) mX33_keys mX33_size mX34_mappings mX34_slots mX34_slotCount mX81_table mX81_predicate mX81_templates mX81_columns mX82_predicate mX82_places) := by
  funext b
  by_cases h : b = a
  · subst h
    rw [va_up_self]
    unfold cVR
    rw [hk]
    simp only [va_up_self]
  · rw [va_up_ne _ _ h]
    unfold cVR
    simp only [va_up_ne _ _ h]
theorem cVR_2_1 {ci : Nat → Nat} {d : Nat → ClassId} {kd : Nat → Nat} {an : Nat → Nat} {ai : Nat → Nat → Int32} {al : Nat → Nat → Int64} {ar : Nat → Nat → Option Nat} {mX32_tables : Nat → Option Nat} {mX32_mappings : Nat → Option Nat} {mX32_mappingCount : Nat → Int32} {mX32_atoms : Nat → Option Nat} {mX32_atomCount : Nat → Int32} {mX32_spanOf : Nat → Option Nat} {mX32_spanFrom : Nat → Option Nat} {mX32_spanTo : Nat → Option Nat} {mX32_spans : Nat → Int32} {mX32_unions : Nat → Option Nat} {mX32_unionCount : Nat → Int32} {mX32_large : Nat → Int32} {mX32_known : Nat → Int32} {mX32_chosen : Nat → Option Nat} {mX32_kinds : Nat → Option Nat} {mX32_given : Nat → Option Nat} {mX32_rowOf : Nat → Option Nat} {mX32_answers : Nat → Option Nat} {mX32_foundBy : Nat → Option Nat} {mX32_firstBy : Nat → Option Nat} {mX32_lastBy : Nat → Option Nat} {mX32_answerCount : Nat → Int32} {mX32_asked : Nat → Int32} {mX32_tooMany : Nat → Int32} {mX33_cells : Nat → Option Nat} {mX33_keys : Nat → Option Nat} {mX33_size : Nat → Int32} {mX34_mappings : Nat → Option Nat} {mX34_slots : Nat → Option Nat} {mX34_slotCount : Nat → Int32} {mX81_table : Nat → Option Nat} {mX81_predicate : Nat → Int32} {mX81_templates : Nat → Option Nat} {mX81_columns : Nat → Option Nat} {mX82_predicate : Nat → Int32} {mX82_places : Nat → Option Nat} {a : Nat} {v : Option Nat} (hk : kd a = 2) : va_up (cVR ci d kd an ai al ar mX32_tables mX32_mappings mX32_mappingCount mX32_atoms mX32_atomCount mX32_spanOf mX32_spanFrom mX32_spanTo mX32_spans mX32_unions mX32_unionCount mX32_large mX32_known mX32_chosen mX32_kinds mX32_given mX32_rowOf mX32_answers mX32_foundBy mX32_firstBy mX32_lastBy mX32_answerCount mX32_asked mX32_tooMany mX33_cells mX33_keys mX33_size mX34_mappings mX34_slots mX34_slotCount mX81_table mX81_predicate mX81_templates mX81_columns mX82_predicate mX82_places) a (.inr (ci 1, [va_rf (mX33_cells a), va_rf v, .int (mX33_size a)])) = (cVR ci d kd an ai al ar mX32_tables mX32_mappings mX32_mappingCount mX32_atoms mX32_atomCount mX32_spanOf mX32_spanFrom mX32_spanTo mX32_spans mX32_unions mX32_unionCount mX32_large mX32_known mX32_chosen mX32_kinds mX32_given mX32_rowOf mX32_answers mX32_foundBy mX32_firstBy mX32_lastBy mX32_answerCount mX32_asked mX32_tooMany mX33_cells (va_up mX33_keys a v) mX33_size mX34_mappings mX34_slots mX34_slotCount mX81_table mX81_predicate mX81_templates mX81_columns mX82_predicate mX82_places) := by
  funext b
  by_cases h : b = a
  · subst h
    rw [va_up_self]
    unfold cVR
    rw [hk]
    simp only [va_up_self]
  · rw [va_up_ne _ _ h]
    unfold cVR
    simp only [va_up_ne _ _ h]
theorem cVR_2_2 {ci : Nat → Nat} {d : Nat → ClassId} {kd : Nat → Nat} {an : Nat → Nat} {ai : Nat → Nat → Int32} {al : Nat → Nat → Int64} {ar : Nat → Nat → Option Nat} {mX32_tables : Nat → Option Nat} {mX32_mappings : Nat → Option Nat} {mX32_mappingCount : Nat → Int32} {mX32_atoms : Nat → Option Nat} {mX32_atomCount : Nat → Int32} {mX32_spanOf : Nat → Option Nat} {mX32_spanFrom : Nat → Option Nat} {mX32_spanTo : Nat → Option Nat} {mX32_spans : Nat → Int32} {mX32_unions : Nat → Option Nat} {mX32_unionCount : Nat → Int32} {mX32_large : Nat → Int32} {mX32_known : Nat → Int32} {mX32_chosen : Nat → Option Nat} {mX32_kinds : Nat → Option Nat} {mX32_given : Nat → Option Nat} {mX32_rowOf : Nat → Option Nat} {mX32_answers : Nat → Option Nat} {mX32_foundBy : Nat → Option Nat} {mX32_firstBy : Nat → Option Nat} {mX32_lastBy : Nat → Option Nat} {mX32_answerCount : Nat → Int32} {mX32_asked : Nat → Int32} {mX32_tooMany : Nat → Int32} {mX33_cells : Nat → Option Nat} {mX33_keys : Nat → Option Nat} {mX33_size : Nat → Int32} {mX34_mappings : Nat → Option Nat} {mX34_slots : Nat → Option Nat} {mX34_slotCount : Nat → Int32} {mX81_table : Nat → Option Nat} {mX81_predicate : Nat → Int32} {mX81_templates : Nat → Option Nat} {mX81_columns : Nat → Option Nat} {mX82_predicate : Nat → Int32} {mX82_places : Nat → Option Nat} {a : Nat} {v : Int32} (hk : kd a = 2) : va_up (cVR ci d kd an ai al ar mX32_tables mX32_mappings mX32_mappingCount mX32_atoms mX32_atomCount mX32_spanOf mX32_spanFrom mX32_spanTo mX32_spans mX32_unions mX32_unionCount mX32_large mX32_known mX32_chosen mX32_kinds mX32_given mX32_rowOf mX32_answers mX32_foundBy mX32_firstBy mX32_lastBy mX32_answerCount mX32_asked mX32_tooMany mX33_cells mX33_keys mX33_size mX34_mappings mX34_slots mX34_slotCount mX81_table mX81_predicate mX81_templates mX81_columns mX82_predicate mX82_places) a (.inr (ci 1, [va_rf (mX33_cells a), va_rf (mX33_keys a), .int v])) = (cVR ci d kd an ai al ar mX32_tables mX32_mappings mX32_mappingCount mX32_atoms mX32_atomCount mX32_spanOf mX32_spanFrom mX32_spanTo mX32_spans mX32_unions mX32_unionCount mX32_large mX32_known mX32_chosen mX32_kinds mX32_given mX32_rowOf mX32_answers mX32_foundBy mX32_firstBy mX32_lastBy mX32_answerCount mX32_asked mX32_tooMany mX33_cells mX33_keys (va_up mX33_size a v) mX34_mappings mX34_slots mX34_slotCount mX81_table mX81_predicate mX81_templates mX81_columns mX82_predicate mX82_places) := by
  funext b
  by_cases h : b = a
  · subst h
    rw [va_up_self]
    unfold cVR
    rw [hk]
    simp only [va_up_self]
  · rw [va_up_ne _ _ h]
    unfold cVR
    simp only [va_up_ne _ _ h]
theorem cVR_2_n {ci : Nat → Nat} {d : Nat → ClassId} {kd : Nat → Nat} {an : Nat → Nat} {ai : Nat → Nat → Int32} {al : Nat → Nat → Int64} {ar : Nat → Nat → Option Nat} {mX32_tables : Nat → Option Nat} {mX32_mappings : Nat → Option Nat} {mX32_mappingCount : Nat → Int32} {mX32_atoms : Nat → Option Nat} {mX32_atomCount : Nat → Int32} {mX32_spanOf : Nat → Option Nat} {mX32_spanFrom : Nat → Option Nat} {mX32_spanTo : Nat → Option Nat} {mX32_spans : Nat → Int32} {mX32_unions : Nat → Option Nat} {mX32_unionCount : Nat → Int32} {mX32_large : Nat → Int32} {mX32_known : Nat → Int32} {mX32_chosen : Nat → Option Nat} {mX32_kinds : Nat → Option Nat} {mX32_given : Nat → Option Nat} {mX32_rowOf : Nat → Option Nat} {mX32_answers : Nat → Option Nat} {mX32_foundBy : Nat → Option Nat} {mX32_firstBy : Nat → Option Nat} {mX32_lastBy : Nat → Option Nat} {mX32_answerCount : Nat → Int32} {mX32_asked : Nat → Int32} {mX32_tooMany : Nat → Int32} {mX33_cells : Nat → Option Nat} {mX33_keys : Nat → Option Nat} {mX33_size : Nat → Int32} {mX34_mappings : Nat → Option Nat} {mX34_slots : Nat → Option Nat} {mX34_slotCount : Nat → Int32} {mX81_table : Nat → Option Nat} {mX81_predicate : Nat → Int32} {mX81_templates : Nat → Option Nat} {mX81_columns : Nat → Option Nat} {mX82_predicate : Nat → Int32} {mX82_places : Nat → Option Nat} (q : Nat) : va_up (cVR ci d kd an ai al ar mX32_tables mX32_mappings mX32_mappingCount mX32_atoms mX32_atomCount mX32_spanOf mX32_spanFrom mX32_spanTo mX32_spans mX32_unions mX32_unionCount mX32_large mX32_known mX32_chosen mX32_kinds mX32_given mX32_rowOf mX32_answers mX32_foundBy mX32_firstBy mX32_lastBy mX32_answerCount mX32_asked mX32_tooMany mX33_cells mX33_keys mX33_size mX34_mappings mX34_slots mX34_slotCount mX81_table mX81_predicate mX81_templates mX81_columns mX82_predicate mX82_places) q (.inr (ci 1, [va_rf none, va_rf none, .int 0])) = (cVR ci d (va_up kd q 2) an ai al ar mX32_tables mX32_mappings mX32_mappingCount mX32_atoms mX32_atomCount mX32_spanOf mX32_spanFrom mX32_spanTo mX32_spans mX32_unions mX32_unionCount mX32_large mX32_known mX32_chosen mX32_kinds mX32_given mX32_rowOf mX32_answers mX32_foundBy mX32_firstBy mX32_lastBy mX32_answerCount mX32_asked mX32_tooMany (va_up mX33_cells q none) (va_up mX33_keys q none) (va_up mX33_size q 0) mX34_mappings mX34_slots mX34_slotCount mX81_table mX81_predicate mX81_templates mX81_columns mX82_predicate mX82_places) := by
  funext b
  by_cases h : b = q
  · subst h
    rw [va_up_self]
    unfold cVR
    simp only [va_up_self]
  · rw [va_up_ne _ _ h]
    unfold cVR
    simp only [va_up_ne _ _ h]
theorem cVR_3 {ci : Nat → Nat} {d : Nat → ClassId} {kd : Nat → Nat} {an : Nat → Nat} {ai : Nat → Nat → Int32} {al : Nat → Nat → Int64} {ar : Nat → Nat → Option Nat} {mX32_tables : Nat → Option Nat} {mX32_mappings : Nat → Option Nat} {mX32_mappingCount : Nat → Int32} {mX32_atoms : Nat → Option Nat} {mX32_atomCount : Nat → Int32} {mX32_spanOf : Nat → Option Nat} {mX32_spanFrom : Nat → Option Nat} {mX32_spanTo : Nat → Option Nat} {mX32_spans : Nat → Int32} {mX32_unions : Nat → Option Nat} {mX32_unionCount : Nat → Int32} {mX32_large : Nat → Int32} {mX32_known : Nat → Int32} {mX32_chosen : Nat → Option Nat} {mX32_kinds : Nat → Option Nat} {mX32_given : Nat → Option Nat} {mX32_rowOf : Nat → Option Nat} {mX32_answers : Nat → Option Nat} {mX32_foundBy : Nat → Option Nat} {mX32_firstBy : Nat → Option Nat} {mX32_lastBy : Nat → Option Nat} {mX32_answerCount : Nat → Int32} {mX32_asked : Nat → Int32} {mX32_tooMany : Nat → Int32} {mX33_cells : Nat → Option Nat} {mX33_keys : Nat → Option Nat} {mX33_size : Nat → Int32} {mX34_mappings : Nat → Option Nat} {mX34_slots : Nat → Option Nat} {mX34_slotCount : Nat → Int32} {mX81_table : Nat → Option Nat} {mX81_predicate : Nat → Int32} {mX81_templates : Nat → Option Nat} {mX81_columns : Nat → Option Nat} {mX82_predicate : Nat → Int32} {mX82_places : Nat → Option Nat} {a : Nat} (hk : kd a = 3) : (cVR ci d kd an ai al ar mX32_tables mX32_mappings mX32_mappingCount mX32_atoms mX32_atomCount mX32_spanOf mX32_spanFrom mX32_spanTo mX32_spans mX32_unions mX32_unionCount mX32_large mX32_known mX32_chosen mX32_kinds mX32_given mX32_rowOf mX32_answers mX32_foundBy mX32_firstBy mX32_lastBy mX32_answerCount mX32_asked mX32_tooMany mX33_cells mX33_keys mX33_size mX34_mappings mX34_slots mX34_slotCount mX81_table mX81_predicate mX81_templates mX81_columns mX82_predicate mX82_places) a = .inr (ci 2, [va_rf (mX34_mappings a), va_rf (mX34_slots a), .int (mX34_slotCount a)]) := by unfold cVR; simp only [hk]
theorem cVR_3_0 {ci : Nat → Nat} {d : Nat → ClassId} {kd : Nat → Nat} {an : Nat → Nat} {ai : Nat → Nat → Int32} {al : Nat → Nat → Int64} {ar : Nat → Nat → Option Nat} {mX32_tables : Nat → Option Nat} {mX32_mappings : Nat → Option Nat} {mX32_mappingCount : Nat → Int32} {mX32_atoms : Nat → Option Nat} {mX32_atomCount : Nat → Int32} {mX32_spanOf : Nat → Option Nat} {mX32_spanFrom : Nat → Option Nat} {mX32_spanTo : Nat → Option Nat} {mX32_spans : Nat → Int32} {mX32_unions : Nat → Option Nat} {mX32_unionCount : Nat → Int32} {mX32_large : Nat → Int32} {mX32_known : Nat → Int32} {mX32_chosen : Nat → Option Nat} {mX32_kinds : Nat → Option Nat} {mX32_given : Nat → Option Nat} {mX32_rowOf : Nat → Option Nat} {mX32_answers : Nat → Option Nat} {mX32_foundBy : Nat → Option Nat} {mX32_firstBy : Nat → Option Nat} {mX32_lastBy : Nat → Option Nat} {mX32_answerCount : Nat → Int32} {mX32_asked : Nat → Int32} {mX32_tooMany : Nat → Int32} {mX33_cells : Nat → Option Nat} {mX33_keys : Nat → Option Nat} {mX33_size : Nat → Int32} {mX34_mappings : Nat → Option Nat} {mX34_slots : Nat → Option Nat} {mX34_slotCount : Nat → Int32} {mX81_table : Nat → Option Nat} {mX81_predicate : Nat → Int32} {mX81_templates : Nat → Option Nat} {mX81_columns : Nat → Option Nat} {mX82_predicate : Nat → Int32} {mX82_places : Nat → Option Nat} {a : Nat} {v : Option Nat} (hk : kd a = 3) : va_up (cVR ci d kd an ai al ar mX32_tables mX32_mappings mX32_mappingCount mX32_atoms mX32_atomCount mX32_spanOf mX32_spanFrom mX32_spanTo mX32_spans mX32_unions mX32_unionCount mX32_large mX32_known mX32_chosen mX32_kinds mX32_given mX32_rowOf mX32_answers mX32_foundBy mX32_firstBy mX32_lastBy mX32_answerCount mX32_asked mX32_tooMany mX33_cells mX33_keys mX33_size mX34_mappings mX34_slots mX34_slotCount mX81_table mX81_predicate mX81_templates mX81_columns mX82_predicate mX82_places) a (.inr (ci 2, [va_rf v, va_rf (mX34_slots a), .int (mX34_slotCount a)])) = (cVR ci d kd an ai al ar mX32_tables mX32_mappings mX32_mappingCount mX32_atoms mX32_atomCount mX32_spanOf mX32_spanFrom mX32_spanTo mX32_spans mX32_unions mX32_unionCount mX32_large mX32_known mX32_chosen mX32_kinds mX32_given mX32_rowOf mX32_answers mX32_foundBy mX32_firstBy mX32_lastBy mX32_answerCount mX32_asked mX32_tooMany mX33_cells mX33_keys mX33_size (va_up mX34_mappings a v) mX34_slots mX34_slotCount mX81_table mX81_predicate mX81_templates mX81_columns mX82_predicate mX82_places) := by
  funext b
  by_cases h : b = a
  · subst h
    rw [va_up_self]
    unfold cVR
    rw [hk]
    simp only [va_up_self]
  · rw [va_up_ne _ _ h]
    unfold cVR
    simp only [va_up_ne _ _ h]
theorem cVR_3_1 {ci : Nat → Nat} {d : Nat → ClassId} {kd : Nat → Nat} {an : Nat → Nat} {ai : Nat → Nat → Int32} {al : Nat → Nat → Int64} {ar : Nat → Nat → Option Nat} {mX32_tables : Nat → Option Nat} {mX32_mappings : Nat → Option Nat} {mX32_mappingCount : Nat → Int32} {mX32_atoms : Nat → Option Nat} {mX32_atomCount : Nat → Int32} {mX32_spanOf : Nat → Option Nat} {mX32_spanFrom : Nat → Option Nat} {mX32_spanTo : Nat → Option Nat} {mX32_spans : Nat → Int32} {mX32_unions : Nat → Option Nat} {mX32_unionCount : Nat → Int32} {mX32_large : Nat → Int32} {mX32_known : Nat → Int32} {mX32_chosen : Nat → Option Nat} {mX32_kinds : Nat → Option Nat} {mX32_given : Nat → Option Nat} {mX32_rowOf : Nat → Option Nat} {mX32_answers : Nat → Option Nat} {mX32_foundBy : Nat → Option Nat} {mX32_firstBy : Nat → Option Nat} {mX32_lastBy : Nat → Option Nat} {mX32_answerCount : Nat → Int32} {mX32_asked : Nat → Int32} {mX32_tooMany : Nat → Int32} {mX33_cells : Nat → Option Nat} {mX33_keys : Nat → Option Nat} {mX33_size : Nat → Int32} {mX34_mappings : Nat → Option Nat} {mX34_slots : Nat → Option Nat} {mX34_slotCount : Nat → Int32} {mX81_table : Nat → Option Nat} {mX81_predicate : Nat → Int32} {mX81_templates : Nat → Option Nat} {mX81_columns : Nat → Option Nat} {mX82_predicate : Nat → Int32} {mX82_places : Nat → Option Nat} {a : Nat} {v : Option Nat} (hk : kd a = 3) : va_up (cVR ci d kd an ai al ar mX32_tables mX32_mappings mX32_mappingCount mX32_atoms mX32_atomCount mX32_spanOf mX32_spanFrom mX32_spanTo mX32_spans mX32_unions mX32_unionCount mX32_large mX32_known mX32_chosen mX32_kinds mX32_given mX32_rowOf mX32_answers mX32_foundBy mX32_firstBy mX32_lastBy mX32_answerCount mX32_asked mX32_tooMany mX33_cells mX33_keys mX33_size mX34_mappings mX34_slots mX34_slotCount mX81_table mX81_predicate mX81_templates mX81_columns mX82_predicate mX82_places) a (.inr (ci 2, [va_rf (mX34_mappings a), va_rf v, .int (mX34_slotCount a)])) = (cVR ci d kd an ai al ar mX32_tables mX32_mappings mX32_mappingCount mX32_atoms mX32_atomCount mX32_spanOf mX32_spanFrom mX32_spanTo mX32_spans mX32_unions mX32_unionCount mX32_large mX32_known mX32_chosen mX32_kinds mX32_given mX32_rowOf mX32_answers mX32_foundBy mX32_firstBy mX32_lastBy mX32_answerCount mX32_asked mX32_tooMany mX33_cells mX33_keys mX33_size mX34_mappings (va_up mX34_slots a v) mX34_slotCount mX81_table mX81_predicate mX81_templates mX81_columns mX82_predicate mX82_places) := by
  funext b
  by_cases h : b = a
  · subst h
    rw [va_up_self]
    unfold cVR
    rw [hk]
    simp only [va_up_self]
  · rw [va_up_ne _ _ h]
    unfold cVR
    simp only [va_up_ne _ _ h]
theorem cVR_3_2 {ci : Nat → Nat} {d : Nat → ClassId} {kd : Nat → Nat} {an : Nat → Nat} {ai : Nat → Nat → Int32} {al : Nat → Nat → Int64} {ar : Nat → Nat → Option Nat} {mX32_tables : Nat → Option Nat} {mX32_mappings : Nat → Option Nat} {mX32_mappingCount : Nat → Int32} {mX32_atoms : Nat → Option Nat} {mX32_atomCount : Nat → Int32} {mX32_spanOf : Nat → Option Nat} {mX32_spanFrom : Nat → Option Nat} {mX32_spanTo : Nat → Option Nat} {mX32_spans : Nat → Int32} {mX32_unions : Nat → Option Nat} {mX32_unionCount : Nat → Int32} {mX32_large : Nat → Int32} {mX32_known : Nat → Int32} {mX32_chosen : Nat → Option Nat} {mX32_kinds : Nat → Option Nat} {mX32_given : Nat → Option Nat} {mX32_rowOf : Nat → Option Nat} {mX32_answers : Nat → Option Nat} {mX32_foundBy : Nat → Option Nat} {mX32_firstBy : Nat → Option Nat} {mX32_lastBy : Nat → Option Nat} {mX32_answerCount : Nat → Int32} {mX32_asked : Nat → Int32} {mX32_tooMany : Nat → Int32} {mX33_cells : Nat → Option Nat} {mX33_keys : Nat → Option Nat} {mX33_size : Nat → Int32} {mX34_mappings : Nat → Option Nat} {mX34_slots : Nat → Option Nat} {mX34_slotCount : Nat → Int32} {mX81_table : Nat → Option Nat} {mX81_predicate : Nat → Int32} {mX81_templates : Nat → Option Nat} {mX81_columns : Nat → Option Nat} {mX82_predicate : Nat → Int32} {mX82_places : Nat → Option Nat} {a : Nat} {v : Int32} (hk : kd a = 3) : va_up (cVR ci d kd an ai al ar mX32_tables mX32_mappings mX32_mappingCount mX32_atoms mX32_atomCount mX32_spanOf mX32_spanFrom mX32_spanTo mX32_spans mX32_unions mX32_unionCount mX32_large mX32_known mX32_chosen mX32_kinds mX32_given mX32_rowOf mX32_answers mX32_foundBy mX32_firstBy mX32_lastBy mX32_answerCount mX32_asked mX32_tooMany mX33_cells mX33_keys mX33_size mX34_mappings mX34_slots mX34_slotCount mX81_table mX81_predicate mX81_templates mX81_columns mX82_predicate mX82_places) a (.inr (ci 2, [va_rf (mX34_mappings a), va_rf (mX34_slots a), .int v])) = (cVR ci d kd an ai al ar mX32_tables mX32_mappings mX32_mappingCount mX32_atoms mX32_atomCount mX32_spanOf mX32_spanFrom mX32_spanTo mX32_spans mX32_unions mX32_unionCount mX32_large mX32_known mX32_chosen mX32_kinds mX32_given mX32_rowOf mX32_answers mX32_foundBy mX32_firstBy mX32_lastBy mX32_answerCount mX32_asked mX32_tooMany mX33_cells mX33_keys mX33_size mX34_mappings mX34_slots (va_up mX34_slotCount a v) mX81_table mX81_predicate mX81_templates mX81_columns mX82_predicate mX82_places) := by
  funext b
  by_cases h : b = a
  · subst h
    rw [va_up_self]
    unfold cVR
    rw [hk]
    simp only [va_up_self]
  · rw [va_up_ne _ _ h]
    unfold cVR
    simp only [va_up_ne _ _ h]
theorem cVR_3_n {ci : Nat → Nat} {d : Nat → ClassId} {kd : Nat → Nat} {an : Nat → Nat} {ai : Nat → Nat → Int32} {al : Nat → Nat → Int64} {ar : Nat → Nat → Option Nat} {mX32_tables : Nat → Option Nat} {mX32_mappings : Nat → Option Nat} {mX32_mappingCount : Nat → Int32} {mX32_atoms : Nat → Option Nat} {mX32_atomCount : Nat → Int32} {mX32_spanOf : Nat → Option Nat} {mX32_spanFrom : Nat → Option Nat} {mX32_spanTo : Nat → Option Nat} {mX32_spans : Nat → Int32} {mX32_unions : Nat → Option Nat} {mX32_unionCount : Nat → Int32} {mX32_large : Nat → Int32} {mX32_known : Nat → Int32} {mX32_chosen : Nat → Option Nat} {mX32_kinds : Nat → Option Nat} {mX32_given : Nat → Option Nat} {mX32_rowOf : Nat → Option Nat} {mX32_answers : Nat → Option Nat} {mX32_foundBy : Nat → Option Nat} {mX32_firstBy : Nat → Option Nat} {mX32_lastBy : Nat → Option Nat} {mX32_answerCount : Nat → Int32} {mX32_asked : Nat → Int32} {mX32_tooMany : Nat → Int32} {mX33_cells : Nat → Option Nat} {mX33_keys : Nat → Option Nat} {mX33_size : Nat → Int32} {mX34_mappings : Nat → Option Nat} {mX34_slots : Nat → Option Nat} {mX34_slotCount : Nat → Int32} {mX81_table : Nat → Option Nat} {mX81_predicate : Nat → Int32} {mX81_templates : Nat → Option Nat} {mX81_columns : Nat → Option Nat} {mX82_predicate : Nat → Int32} {mX82_places : Nat → Option Nat} (q : Nat) : va_up (cVR ci d kd an ai al ar mX32_tables mX32_mappings mX32_mappingCount mX32_atoms mX32_atomCount mX32_spanOf mX32_spanFrom mX32_spanTo mX32_spans mX32_unions mX32_unionCount mX32_large mX32_known mX32_chosen mX32_kinds mX32_given mX32_rowOf mX32_answers mX32_foundBy mX32_firstBy mX32_lastBy mX32_answerCount mX32_asked mX32_tooMany mX33_cells mX33_keys mX33_size mX34_mappings mX34_slots mX34_slotCount mX81_table mX81_predicate mX81_templates mX81_columns mX82_predicate mX82_places) q (.inr (ci 2, [va_rf none, va_rf none, .int 0])) = (cVR ci d (va_up kd q 3) an ai al ar mX32_tables mX32_mappings mX32_mappingCount mX32_atoms mX32_atomCount mX32_spanOf mX32_spanFrom mX32_spanTo mX32_spans mX32_unions mX32_unionCount mX32_large mX32_known mX32_chosen mX32_kinds mX32_given mX32_rowOf mX32_answers mX32_foundBy mX32_firstBy mX32_lastBy mX32_answerCount mX32_asked mX32_tooMany mX33_cells mX33_keys mX33_size (va_up mX34_mappings q none) (va_up mX34_slots q none) (va_up mX34_slotCount q 0) mX81_table mX81_predicate mX81_templates mX81_columns mX82_predicate mX82_places) := by
  funext b
  by_cases h : b = q
  · subst h
    rw [va_up_self]
    unfold cVR
    simp only [va_up_self]
  · rw [va_up_ne _ _ h]
    unfold cVR
    simp only [va_up_ne _ _ h]
theorem cVR_4 {ci : Nat → Nat} {d : Nat → ClassId} {kd : Nat → Nat} {an : Nat → Nat} {ai : Nat → Nat → Int32} {al : Nat → Nat → Int64} {ar : Nat → Nat → Option Nat} {mX32_tables : Nat → Option Nat} {mX32_mappings : Nat → Option Nat} {mX32_mappingCount : Nat → Int32} {mX32_atoms : Nat → Option Nat} {mX32_atomCount : Nat → Int32} {mX32_spanOf : Nat → Option Nat} {mX32_spanFrom : Nat → Option Nat} {mX32_spanTo : Nat → Option Nat} {mX32_spans : Nat → Int32} {mX32_unions : Nat → Option Nat} {mX32_unionCount : Nat → Int32} {mX32_large : Nat → Int32} {mX32_known : Nat → Int32} {mX32_chosen : Nat → Option Nat} {mX32_kinds : Nat → Option Nat} {mX32_given : Nat → Option Nat} {mX32_rowOf : Nat → Option Nat} {mX32_answers : Nat → Option Nat} {mX32_foundBy : Nat → Option Nat} {mX32_firstBy : Nat → Option Nat} {mX32_lastBy : Nat → Option Nat} {mX32_answerCount : Nat → Int32} {mX32_asked : Nat → Int32} {mX32_tooMany : Nat → Int32} {mX33_cells : Nat → Option Nat} {mX33_keys : Nat → Option Nat} {mX33_size : Nat → Int32} {mX34_mappings : Nat → Option Nat} {mX34_slots : Nat → Option Nat} {mX34_slotCount : Nat → Int32} {mX81_table : Nat → Option Nat} {mX81_predicate : Nat → Int32} {mX81_templates : Nat → Option Nat} {mX81_columns : Nat → Option Nat} {mX82_predicate : Nat → Int32} {mX82_places : Nat → Option Nat} {a : Nat} (hk : kd a = 4) : (cVR ci d kd an ai al ar mX32_tables mX32_mappings mX32_mappingCount mX32_atoms mX32_atomCount mX32_spanOf mX32_spanFrom mX32_spanTo mX32_spans mX32_unions mX32_unionCount mX32_large mX32_known mX32_chosen mX32_kinds mX32_given mX32_rowOf mX32_answers mX32_foundBy mX32_firstBy mX32_lastBy mX32_answerCount mX32_asked mX32_tooMany mX33_cells mX33_keys mX33_size mX34_mappings mX34_slots mX34_slotCount mX81_table mX81_predicate mX81_templates mX81_columns mX82_predicate mX82_places) a = .inr (ci 3, [va_rf (mX81_table a), .int (mX81_predicate a), va_rf (mX81_templates a), va_rf (mX81_columns a)]) := by unfold cVR; simp only [hk]
theorem cVR_4_0 {ci : Nat → Nat} {d : Nat → ClassId} {kd : Nat → Nat} {an : Nat → Nat} {ai : Nat → Nat → Int32} {al : Nat → Nat → Int64} {ar : Nat → Nat → Option Nat} {mX32_tables : Nat → Option Nat} {mX32_mappings : Nat → Option Nat} {mX32_mappingCount : Nat → Int32} {mX32_atoms : Nat → Option Nat} {mX32_atomCount : Nat → Int32} {mX32_spanOf : Nat → Option Nat} {mX32_spanFrom : Nat → Option Nat} {mX32_spanTo : Nat → Option Nat} {mX32_spans : Nat → Int32} {mX32_unions : Nat → Option Nat} {mX32_unionCount : Nat → Int32} {mX32_large : Nat → Int32} {mX32_known : Nat → Int32} {mX32_chosen : Nat → Option Nat} {mX32_kinds : Nat → Option Nat} {mX32_given : Nat → Option Nat} {mX32_rowOf : Nat → Option Nat} {mX32_answers : Nat → Option Nat} {mX32_foundBy : Nat → Option Nat} {mX32_firstBy : Nat → Option Nat} {mX32_lastBy : Nat → Option Nat} {mX32_answerCount : Nat → Int32} {mX32_asked : Nat → Int32} {mX32_tooMany : Nat → Int32} {mX33_cells : Nat → Option Nat} {mX33_keys : Nat → Option Nat} {mX33_size : Nat → Int32} {mX34_mappings : Nat → Option Nat} {mX34_slots : Nat → Option Nat} {mX34_slotCount : Nat → Int32} {mX81_table : Nat → Option Nat} {mX81_predicate : Nat → Int32} {mX81_templates : Nat → Option Nat} {mX81_columns : Nat → Option Nat} {mX82_predicate : Nat → Int32} {mX82_places : Nat → Option Nat} {a : Nat} {v : Option Nat} (hk : kd a = 4) : va_up (cVR ci d kd an ai al ar mX32_tables mX32_mappings mX32_mappingCount mX32_atoms mX32_atomCount mX32_spanOf mX32_spanFrom mX32_spanTo mX32_spans mX32_unions mX32_unionCount mX32_large mX32_known mX32_chosen mX32_kinds mX32_given mX32_rowOf mX32_answers mX32_foundBy mX32_firstBy mX32_lastBy mX32_answerCount mX32_asked mX32_tooMany mX33_cells mX33_keys mX33_size mX34_mappings mX34_slots mX34_slotCount mX81_table mX81_predicate mX81_templates mX81_columns mX82_predicate mX82_places) a (.inr (ci 3, [va_rf v, .int (mX81_predicate a), va_rf (mX81_templates a), va_rf (mX81_columns a)])) = (cVR ci d kd an ai al ar mX32_tables mX32_mappings mX32_mappingCount mX32_atoms mX32_atomCount mX32_spanOf mX32_spanFrom mX32_spanTo mX32_spans mX32_unions mX32_unionCount mX32_large mX32_known mX32_chosen mX32_kinds mX32_given mX32_rowOf mX32_answers mX32_foundBy mX32_firstBy mX32_lastBy mX32_answerCount mX32_asked mX32_tooMany mX33_cells mX33_keys mX33_size mX34_mappings mX34_slots mX34_slotCount (va_up mX81_table a v) mX81_predicate mX81_templates mX81_columns mX82_predicate mX82_places) := by
  funext b
  by_cases h : b = a
  · subst h
    rw [va_up_self]
    unfold cVR
    rw [hk]
    simp only [va_up_self]
  · rw [va_up_ne _ _ h]
    unfold cVR
    simp only [va_up_ne _ _ h]
theorem cVR_4_1 {ci : Nat → Nat} {d : Nat → ClassId} {kd : Nat → Nat} {an : Nat → Nat} {ai : Nat → Nat → Int32} {al : Nat → Nat → Int64} {ar : Nat → Nat → Option Nat} {mX32_tables : Nat → Option Nat} {mX32_mappings : Nat → Option Nat} {mX32_mappingCount : Nat → Int32} {mX32_atoms : Nat → Option Nat} {mX32_atomCount : Nat → Int32} {mX32_spanOf : Nat → Option Nat} {mX32_spanFrom : Nat → Option Nat} {mX32_spanTo : Nat → Option Nat} {mX32_spans : Nat → Int32} {mX32_unions : Nat → Option Nat} {mX32_unionCount : Nat → Int32} {mX32_large : Nat → Int32} {mX32_known : Nat → Int32} {mX32_chosen : Nat → Option Nat} {mX32_kinds : Nat → Option Nat} {mX32_given : Nat → Option Nat} {mX32_rowOf : Nat → Option Nat} {mX32_answers : Nat → Option Nat} {mX32_foundBy : Nat → Option Nat} {mX32_firstBy : Nat → Option Nat} {mX32_lastBy : Nat → Option Nat} {mX32_answerCount : Nat → Int32} {mX32_asked : Nat → Int32} {mX32_tooMany : Nat → Int32} {mX33_cells : Nat → Option Nat} {mX33_keys : Nat → Option Nat} {mX33_size : Nat → Int32} {mX34_mappings : Nat → Option Nat} {mX34_slots : Nat → Option Nat} {mX34_slotCount : Nat → Int32} {mX81_table : Nat → Option Nat} {mX81_predicate : Nat → Int32} {mX81_templates : Nat → Option Nat} {mX81_columns : Nat → Option Nat} {mX82_predicate : Nat → Int32} {mX82_places : Nat → Option Nat} {a : Nat} {v : Int32} (hk : kd a = 4) : va_up (cVR ci d kd an ai al ar mX32_tables mX32_mappings mX32_mappingCount mX32_atoms mX32_atomCount mX32_spanOf mX32_spanFrom mX32_spanTo mX32_spans mX32_unions mX32_unionCount mX32_large mX32_known mX32_chosen mX32_kinds mX32_given mX32_rowOf mX32_answers mX32_foundBy mX32_firstBy mX32_lastBy mX32_answerCount mX32_asked mX32_tooMany mX33_cells mX33_keys mX33_size mX34_mappings mX34_slots mX34_slotCount mX81_table mX81_predicate mX81_templates mX81_columns mX82_predicate mX82_places) a (.inr (ci 3, [va_rf (mX81_table a), .int v, va_rf (mX81_templates a), va_rf (mX81_columns a)])) = (cVR ci d kd an ai al ar mX32_tables mX32_mappings mX32_mappingCount mX32_atoms mX32_atomCount mX32_spanOf mX32_spanFrom mX32_spanTo mX32_spans mX32_unions mX32_unionCount mX32_large mX32_known mX32_chosen mX32_kinds mX32_given mX32_rowOf mX32_answers mX32_foundBy mX32_firstBy mX32_lastBy mX32_answerCount mX32_asked mX32_tooMany mX33_cells mX33_keys mX33_size mX34_mappings mX34_slots mX34_slotCount mX81_table (va_up mX81_predicate a v) mX81_templates mX81_columns mX82_predicate mX82_places) := by
  funext b
  by_cases h : b = a
  · subst h
    rw [va_up_self]
    unfold cVR
    rw [hk]
    simp only [va_up_self]
  · rw [va_up_ne _ _ h]
    unfold cVR
    simp only [va_up_ne _ _ h]
theorem cVR_4_2 {ci : Nat → Nat} {d : Nat → ClassId} {kd : Nat → Nat} {an : Nat → Nat} {ai : Nat → Nat → Int32} {al : Nat → Nat → Int64} {ar : Nat → Nat → Option Nat} {mX32_tables : Nat → Option Nat} {mX32_mappings : Nat → Option Nat} {mX32_mappingCount : Nat → Int32} {mX32_atoms : Nat → Option Nat} {mX32_atomCount : Nat → Int32} {mX32_spanOf : Nat → Option Nat} {mX32_spanFrom : Nat → Option Nat} {mX32_spanTo : Nat → Option Nat} {mX32_spans : Nat → Int32} {mX32_unions : Nat → Option Nat} {mX32_unionCount : Nat → Int32} {mX32_large : Nat → Int32} {mX32_known : Nat → Int32} {mX32_chosen : Nat → Option Nat} {mX32_kinds : Nat → Option Nat} {mX32_given : Nat → Option Nat} {mX32_rowOf : Nat → Option Nat} {mX32_answers : Nat → Option Nat} {mX32_foundBy : Nat → Option Nat} {mX32_firstBy : Nat → Option Nat} {mX32_lastBy : Nat → Option Nat} {mX32_answerCount : Nat → Int32} {mX32_asked : Nat → Int32} {mX32_tooMany : Nat → Int32} {mX33_cells : Nat → Option Nat} {mX33_keys : Nat → Option Nat} {mX33_size : Nat → Int32} {mX34_mappings : Nat → Option Nat} {mX34_slots : Nat → Option Nat} {mX34_slotCount : Nat → Int32} {mX81_table : Nat → Option Nat} {mX81_predicate : Nat → Int32} {mX81_templates : Nat → Option Nat} {mX81_columns : Nat → Option Nat} {mX82_predicate : Nat → Int32} {mX82_places : Nat → Option Nat} {a : Nat} {v : Option Nat} (hk : kd a = 4) : va_up (cVR ci d kd an ai al ar mX32_tables mX32_mappings mX32_mappingCount mX32_atoms mX32_atomCount mX32_spanOf mX32_spanFrom mX32_spanTo mX32_spans mX32_unions mX32_unionCount mX32_large mX32_known mX32_chosen mX32_kinds mX32_given mX32_rowOf mX32_answers mX32_foundBy mX32_firstBy mX32_lastBy mX32_answerCount mX32_asked mX32_tooMany mX33_cells mX33_keys mX33_size mX34_mappings mX34_slots mX34_slotCount mX81_table mX81_predicate mX81_templates mX81_columns mX82_predicate mX82_places) a (.inr (ci 3, [va_rf (mX81_table a), .int (mX81_predicate a), va_rf v, va_rf (mX81_columns a)])) = (cVR ci d kd an ai al ar mX32_tables mX32_mappings mX32_mappingCount mX32_atoms mX32_atomCount mX32_spanOf mX32_spanFrom mX32_spanTo mX32_spans mX32_unions mX32_unionCount mX32_large mX32_known mX32_chosen mX32_kinds mX32_given mX32_rowOf mX32_answers mX32_foundBy mX32_firstBy mX32_lastBy mX32_answerCount mX32_asked mX32_tooMany mX33_cells mX33_keys mX33_size mX34_mappings mX34_slots mX34_slotCount mX81_table mX81_predicate (va_up mX81_templates a v) mX81_columns mX82_predicate mX82_places) := by
  funext b
  by_cases h : b = a
  · subst h
    rw [va_up_self]
    unfold cVR
    rw [hk]
    simp only [va_up_self]
  · rw [va_up_ne _ _ h]
    unfold cVR
    simp only [va_up_ne _ _ h]
theorem cVR_4_3 {ci : Nat → Nat} {d : Nat → ClassId} {kd : Nat → Nat} {an : Nat → Nat} {ai : Nat → Nat → Int32} {al : Nat → Nat → Int64} {ar : Nat → Nat → Option Nat} {mX32_tables : Nat → Option Nat} {mX32_mappings : Nat → Option Nat} {mX32_mappingCount : Nat → Int32} {mX32_atoms : Nat → Option Nat} {mX32_atomCount : Nat → Int32} {mX32_spanOf : Nat → Option Nat} {mX32_spanFrom : Nat → Option Nat} {mX32_spanTo : Nat → Option Nat} {mX32_spans : Nat → Int32} {mX32_unions : Nat → Option Nat} {mX32_unionCount : Nat → Int32} {mX32_large : Nat → Int32} {mX32_known : Nat → Int32} {mX32_chosen : Nat → Option Nat} {mX32_kinds : Nat → Option Nat} {mX32_given : Nat → Option Nat} {mX32_rowOf : Nat → Option Nat} {mX32_answers : Nat → Option Nat} {mX32_foundBy : Nat → Option Nat} {mX32_firstBy : Nat → Option Nat} {mX32_lastBy : Nat → Option Nat} {mX32_answerCount : Nat → Int32} {mX32_asked : Nat → Int32} {mX32_tooMany : Nat → Int32} {mX33_cells : Nat → Option Nat} {mX33_keys : Nat → Option Nat} {mX33_size : Nat → Int32} {mX34_mappings : Nat → Option Nat} {mX34_slots : Nat → Option Nat} {mX34_slotCount : Nat → Int32} {mX81_table : Nat → Option Nat} {mX81_predicate : Nat → Int32} {mX81_templates : Nat → Option Nat} {mX81_columns : Nat → Option Nat} {mX82_predicate : Nat → Int32} {mX82_places : Nat → Option Nat} {a : Nat} {v : Option Nat} (hk : kd a = 4) : va_up (cVR ci d kd an ai al ar mX32_tables mX32_mappings mX32_mappingCount mX32_atoms mX32_atomCount mX32_spanOf mX32_spanFrom mX32_spanTo mX32_spans mX32_unions mX32_unionCount mX32_large mX32_known mX32_chosen mX32_kinds mX32_given mX32_rowOf mX32_answers mX32_foundBy mX32_firstBy mX32_lastBy mX32_answerCount mX32_asked mX32_tooMany mX33_cells mX33_keys mX33_size mX34_mappings mX34_slots mX34_slotCount mX81_table mX81_predicate mX81_templates mX81_columns mX82_predicate mX82_places) a (.inr (ci 3, [va_rf (mX81_table a), .int (mX81_predicate a), va_rf (mX81_templates a), va_rf v])) = (cVR ci d kd an ai al ar mX32_tables mX32_mappings mX32_mappingCount mX32_atoms mX32_atomCount mX32_spanOf mX32_spanFrom mX32_spanTo mX32_spans mX32_unions mX32_unionCount mX32_large mX32_known mX32_chosen mX32_kinds mX32_given mX32_rowOf mX32_answers mX32_foundBy mX32_firstBy mX32_lastBy mX32_answerCount mX32_asked mX32_tooMany mX33_cells mX33_keys mX33_size mX34_mappings mX34_slots mX34_slotCount mX81_table mX81_predicate mX81_templates (va_up mX81_columns a v) mX82_predicate mX82_places) := by
  funext b
  by_cases h : b = a
  · subst h
    rw [va_up_self]
    unfold cVR
    rw [hk]
    simp only [va_up_self]
  · rw [va_up_ne _ _ h]
    unfold cVR
    simp only [va_up_ne _ _ h]
theorem cVR_4_n {ci : Nat → Nat} {d : Nat → ClassId} {kd : Nat → Nat} {an : Nat → Nat} {ai : Nat → Nat → Int32} {al : Nat → Nat → Int64} {ar : Nat → Nat → Option Nat} {mX32_tables : Nat → Option Nat} {mX32_mappings : Nat → Option Nat} {mX32_mappingCount : Nat → Int32} {mX32_atoms : Nat → Option Nat} {mX32_atomCount : Nat → Int32} {mX32_spanOf : Nat → Option Nat} {mX32_spanFrom : Nat → Option Nat} {mX32_spanTo : Nat → Option Nat} {mX32_spans : Nat → Int32} {mX32_unions : Nat → Option Nat} {mX32_unionCount : Nat → Int32} {mX32_large : Nat → Int32} {mX32_known : Nat → Int32} {mX32_chosen : Nat → Option Nat} {mX32_kinds : Nat → Option Nat} {mX32_given : Nat → Option Nat} {mX32_rowOf : Nat → Option Nat} {mX32_answers : Nat → Option Nat} {mX32_foundBy : Nat → Option Nat} {mX32_firstBy : Nat → Option Nat} {mX32_lastBy : Nat → Option Nat} {mX32_answerCount : Nat → Int32} {mX32_asked : Nat → Int32} {mX32_tooMany : Nat → Int32} {mX33_cells : Nat → Option Nat} {mX33_keys : Nat → Option Nat} {mX33_size : Nat → Int32} {mX34_mappings : Nat → Option Nat} {mX34_slots : Nat → Option Nat} {mX34_slotCount : Nat → Int32} {mX81_table : Nat → Option Nat} {mX81_predicate : Nat → Int32} {mX81_templates : Nat → Option Nat} {mX81_columns : Nat → Option Nat} {mX82_predicate : Nat → Int32} {mX82_places : Nat → Option Nat} (q : Nat) : va_up (cVR ci d kd an ai al ar mX32_tables mX32_mappings mX32_mappingCount mX32_atoms mX32_atomCount mX32_spanOf mX32_spanFrom mX32_spanTo mX32_spans mX32_unions mX32_unionCount mX32_large mX32_known mX32_chosen mX32_kinds mX32_given mX32_rowOf mX32_answers mX32_foundBy mX32_firstBy mX32_lastBy mX32_answerCount mX32_asked mX32_tooMany mX33_cells mX33_keys mX33_size mX34_mappings mX34_slots mX34_slotCount mX81_table mX81_predicate mX81_templates mX81_columns mX82_predicate mX82_places) q (.inr (ci 3, [va_rf none, .int 0, va_rf none, va_rf none])) = (cVR ci d (va_up kd q 4) an ai al ar mX32_tables mX32_mappings mX32_mappingCount mX32_atoms mX32_atomCount mX32_spanOf mX32_spanFrom mX32_spanTo mX32_spans mX32_unions mX32_unionCount mX32_large mX32_known mX32_chosen mX32_kinds mX32_given mX32_rowOf mX32_answers mX32_foundBy mX32_firstBy mX32_lastBy mX32_answerCount mX32_asked mX32_tooMany mX33_cells mX33_keys mX33_size mX34_mappings mX34_slots mX34_slotCount (va_up mX81_table q none) (va_up mX81_predicate q 0) (va_up mX81_templates q none) (va_up mX81_columns q none) mX82_predicate mX82_places) := by
  funext b
  by_cases h : b = q
  · subst h
    rw [va_up_self]
    unfold cVR
    simp only [va_up_self]
  · rw [va_up_ne _ _ h]
    unfold cVR
    simp only [va_up_ne _ _ h]
theorem cVR_5 {ci : Nat → Nat} {d : Nat → ClassId} {kd : Nat → Nat} {an : Nat → Nat} {ai : Nat → Nat → Int32} {al : Nat → Nat → Int64} {ar : Nat → Nat → Option Nat} {mX32_tables : Nat → Option Nat} {mX32_mappings : Nat → Option Nat} {mX32_mappingCount : Nat → Int32} {mX32_atoms : Nat → Option Nat} {mX32_atomCount : Nat → Int32} {mX32_spanOf : Nat → Option Nat} {mX32_spanFrom : Nat → Option Nat} {mX32_spanTo : Nat → Option Nat} {mX32_spans : Nat → Int32} {mX32_unions : Nat → Option Nat} {mX32_unionCount : Nat → Int32} {mX32_large : Nat → Int32} {mX32_known : Nat → Int32} {mX32_chosen : Nat → Option Nat} {mX32_kinds : Nat → Option Nat} {mX32_given : Nat → Option Nat} {mX32_rowOf : Nat → Option Nat} {mX32_answers : Nat → Option Nat} {mX32_foundBy : Nat → Option Nat} {mX32_firstBy : Nat → Option Nat} {mX32_lastBy : Nat → Option Nat} {mX32_answerCount : Nat → Int32} {mX32_asked : Nat → Int32} {mX32_tooMany : Nat → Int32} {mX33_cells : Nat → Option Nat} {mX33_keys : Nat → Option Nat} {mX33_size : Nat → Int32} {mX34_mappings : Nat → Option Nat} {mX34_slots : Nat → Option Nat} {mX34_slotCount : Nat → Int32} {mX81_table : Nat → Option Nat} {mX81_predicate : Nat → Int32} {mX81_templates : Nat → Option Nat} {mX81_columns : Nat → Option Nat} {mX82_predicate : Nat → Int32} {mX82_places : Nat → Option Nat} {a : Nat} (hk : kd a = 5) : (cVR ci d kd an ai al ar mX32_tables mX32_mappings mX32_mappingCount mX32_atoms mX32_atomCount mX32_spanOf mX32_spanFrom mX32_spanTo mX32_spans mX32_unions mX32_unionCount mX32_large mX32_known mX32_chosen mX32_kinds mX32_given mX32_rowOf mX32_answers mX32_foundBy mX32_firstBy mX32_lastBy mX32_answerCount mX32_asked mX32_tooMany mX33_cells mX33_keys mX33_size mX34_mappings mX34_slots mX34_slotCount mX81_table mX81_predicate mX81_templates mX81_columns mX82_predicate mX82_places) a = .inr (ci 4, [.int (mX82_predicate a), va_rf (mX82_places a)]) := by unfold cVR; simp only [hk]
theorem cVR_5_0 {ci : Nat → Nat} {d : Nat → ClassId} {kd : Nat → Nat} {an : Nat → Nat} {ai : Nat → Nat → Int32} {al : Nat → Nat → Int64} {ar : Nat → Nat → Option Nat} {mX32_tables : Nat → Option Nat} {mX32_mappings : Nat → Option Nat} {mX32_mappingCount : Nat → Int32} {mX32_atoms : Nat → Option Nat} {mX32_atomCount : Nat → Int32} {mX32_spanOf : Nat → Option Nat} {mX32_spanFrom : Nat → Option Nat} {mX32_spanTo : Nat → Option Nat} {mX32_spans : Nat → Int32} {mX32_unions : Nat → Option Nat} {mX32_unionCount : Nat → Int32} {mX32_large : Nat → Int32} {mX32_known : Nat → Int32} {mX32_chosen : Nat → Option Nat} {mX32_kinds : Nat → Option Nat} {mX32_given : Nat → Option Nat} {mX32_rowOf : Nat → Option Nat} {mX32_answers : Nat → Option Nat} {mX32_foundBy : Nat → Option Nat} {mX32_firstBy : Nat → Option Nat} {mX32_lastBy : Nat → Option Nat} {mX32_answerCount : Nat → Int32} {mX32_asked : Nat → Int32} {mX32_tooMany : Nat → Int32} {mX33_cells : Nat → Option Nat} {mX33_keys : Nat → Option Nat} {mX33_size : Nat → Int32} {mX34_mappings : Nat → Option Nat} {mX34_slots : Nat → Option Nat} {mX34_slotCount : Nat → Int32} {mX81_table : Nat → Option Nat} {mX81_predicate : Nat → Int32} {mX81_templates : Nat → Option Nat} {mX81_columns : Nat → Option Nat} {mX82_predicate : Nat → Int32} {mX82_places : Nat → Option Nat} {a : Nat} {v : Int32} (hk : kd a = 5) : va_up (cVR ci d kd an ai al ar mX32_tables mX32_mappings mX32_mappingCount mX32_atoms mX32_atomCount mX32_spanOf mX32_spanFrom mX32_spanTo mX32_spans mX32_unions mX32_unionCount mX32_large mX32_known mX32_chosen mX32_kinds mX32_given mX32_rowOf mX32_answers mX32_foundBy mX32_firstBy mX32_lastBy mX32_answerCount mX32_asked mX32_tooMany mX33_cells mX33_keys mX33_size mX34_mappings mX34_slots mX34_slotCount mX81_table mX81_predicate mX81_templates mX81_columns mX82_predicate mX82_places) a (.inr (ci 4, [.int v, va_rf (mX82_places a)])) = (cVR ci d kd an ai al ar mX32_tables mX32_mappings mX32_mappingCount mX32_atoms mX32_atomCount mX32_spanOf mX32_spanFrom mX32_spanTo mX32_spans mX32_unions mX32_unionCount mX32_large mX32_known mX32_chosen mX32_kinds mX32_given mX32_rowOf mX32_answers mX32_foundBy mX32_firstBy mX32_lastBy mX32_answerCount mX32_asked mX32_tooMany mX33_cells mX33_keys mX33_size mX34_mappings mX34_slots mX34_slotCount mX81_table mX81_predicate mX81_templates mX81_columns (va_up mX82_predicate a v) mX82_places) := by
  funext b
  by_cases h : b = a
  · subst h
    rw [va_up_self]
    unfold cVR
    rw [hk]
    simp only [va_up_self]
  · rw [va_up_ne _ _ h]
    unfold cVR
    simp only [va_up_ne _ _ h]
theorem cVR_5_1 {ci : Nat → Nat} {d : Nat → ClassId} {kd : Nat → Nat} {an : Nat → Nat} {ai : Nat → Nat → Int32} {al : Nat → Nat → Int64} {ar : Nat → Nat → Option Nat} {mX32_tables : Nat → Option Nat} {mX32_mappings : Nat → Option Nat} {mX32_mappingCount : Nat → Int32} {mX32_atoms : Nat → Option Nat} {mX32_atomCount : Nat → Int32} {mX32_spanOf : Nat → Option Nat} {mX32_spanFrom : Nat → Option Nat} {mX32_spanTo : Nat → Option Nat} {mX32_spans : Nat → Int32} {mX32_unions : Nat → Option Nat} {mX32_unionCount : Nat → Int32} {mX32_large : Nat → Int32} {mX32_known : Nat → Int32} {mX32_chosen : Nat → Option Nat} {mX32_kinds : Nat → Option Nat} {mX32_given : Nat → Option Nat} {mX32_rowOf : Nat → Option Nat} {mX32_answers : Nat → Option Nat} {mX32_foundBy : Nat → Option Nat} {mX32_firstBy : Nat → Option Nat} {mX32_lastBy : Nat → Option Nat} {mX32_answerCount : Nat → Int32} {mX32_asked : Nat → Int32} {mX32_tooMany : Nat → Int32} {mX33_cells : Nat → Option Nat} {mX33_keys : Nat → Option Nat} {mX33_size : Nat → Int32} {mX34_mappings : Nat → Option Nat} {mX34_slots : Nat → Option Nat} {mX34_slotCount : Nat → Int32} {mX81_table : Nat → Option Nat} {mX81_predicate : Nat → Int32} {mX81_templates : Nat → Option Nat} {mX81_columns : Nat → Option Nat} {mX82_predicate : Nat → Int32} {mX82_places : Nat → Option Nat} {a : Nat} {v : Option Nat} (hk : kd a = 5) : va_up (cVR ci d kd an ai al ar mX32_tables mX32_mappings mX32_mappingCount mX32_atoms mX32_atomCount mX32_spanOf mX32_spanFrom mX32_spanTo mX32_spans mX32_unions mX32_unionCount mX32_large mX32_known mX32_chosen mX32_kinds mX32_given mX32_rowOf mX32_answers mX32_foundBy mX32_firstBy mX32_lastBy mX32_answerCount mX32_asked mX32_tooMany mX33_cells mX33_keys mX33_size mX34_mappings mX34_slots mX34_slotCount mX81_table mX81_predicate mX81_templates mX81_columns mX82_predicate mX82_places) a (.inr (ci 4, [.int (mX82_predicate a), va_rf v])) = (cVR ci d kd an ai al ar mX32_tables mX32_mappings mX32_mappingCount mX32_atoms mX32_atomCount mX32_spanOf mX32_spanFrom mX32_spanTo mX32_spans mX32_unions mX32_unionCount mX32_large mX32_known mX32_chosen mX32_kinds mX32_given mX32_rowOf mX32_answers mX32_foundBy mX32_firstBy mX32_lastBy mX32_answerCount mX32_asked mX32_tooMany mX33_cells mX33_keys mX33_size mX34_mappings mX34_slots mX34_slotCount mX81_table mX81_predicate mX81_templates mX81_columns mX82_predicate (va_up mX82_places a v)) := by
  funext b
  by_cases h : b = a
  · subst h
    rw [va_up_self]
    unfold cVR
    rw [hk]
    simp only [va_up_self]
  · rw [va_up_ne _ _ h]
    unfold cVR
    simp only [va_up_ne _ _ h]
theorem cVR_5_n {ci : Nat → Nat} {d : Nat → ClassId} {kd : Nat → Nat} {an : Nat → Nat} {ai : Nat → Nat → Int32} {al : Nat → Nat → Int64} {ar : Nat → Nat → Option Nat} {mX32_tables : Nat → Option Nat} {mX32_mappings : Nat → Option Nat} {mX32_mappingCount : Nat → Int32} {mX32_atoms : Nat → Option Nat} {mX32_atomCount : Nat → Int32} {mX32_spanOf : Nat → Option Nat} {mX32_spanFrom : Nat → Option Nat} {mX32_spanTo : Nat → Option Nat} {mX32_spans : Nat → Int32} {mX32_unions : Nat → Option Nat} {mX32_unionCount : Nat → Int32} {mX32_large : Nat → Int32} {mX32_known : Nat → Int32} {mX32_chosen : Nat → Option Nat} {mX32_kinds : Nat → Option Nat} {mX32_given : Nat → Option Nat} {mX32_rowOf : Nat → Option Nat} {mX32_answers : Nat → Option Nat} {mX32_foundBy : Nat → Option Nat} {mX32_firstBy : Nat → Option Nat} {mX32_lastBy : Nat → Option Nat} {mX32_answerCount : Nat → Int32} {mX32_asked : Nat → Int32} {mX32_tooMany : Nat → Int32} {mX33_cells : Nat → Option Nat} {mX33_keys : Nat → Option Nat} {mX33_size : Nat → Int32} {mX34_mappings : Nat → Option Nat} {mX34_slots : Nat → Option Nat} {mX34_slotCount : Nat → Int32} {mX81_table : Nat → Option Nat} {mX81_predicate : Nat → Int32} {mX81_templates : Nat → Option Nat} {mX81_columns : Nat → Option Nat} {mX82_predicate : Nat → Int32} {mX82_places : Nat → Option Nat} (q : Nat) : va_up (cVR ci d kd an ai al ar mX32_tables mX32_mappings mX32_mappingCount mX32_atoms mX32_atomCount mX32_spanOf mX32_spanFrom mX32_spanTo mX32_spans mX32_unions mX32_unionCount mX32_large mX32_known mX32_chosen mX32_kinds mX32_given mX32_rowOf mX32_answers mX32_foundBy mX32_firstBy mX32_lastBy mX32_answerCount mX32_asked mX32_tooMany mX33_cells mX33_keys mX33_size mX34_mappings mX34_slots mX34_slotCount mX81_table mX81_predicate mX81_templates mX81_columns mX82_predicate mX82_places) q (.inr (ci 4, [.int 0, va_rf none])) = (cVR ci d (va_up kd q 5) an ai al ar mX32_tables mX32_mappings mX32_mappingCount mX32_atoms mX32_atomCount mX32_spanOf mX32_spanFrom mX32_spanTo mX32_spans mX32_unions mX32_unionCount mX32_large mX32_known mX32_chosen mX32_kinds mX32_given mX32_rowOf mX32_answers mX32_foundBy mX32_firstBy mX32_lastBy mX32_answerCount mX32_asked mX32_tooMany mX33_cells mX33_keys mX33_size mX34_mappings mX34_slots mX34_slotCount mX81_table mX81_predicate mX81_templates mX81_columns (va_up mX82_predicate q 0) (va_up mX82_places q none)) := by
  funext b
  by_cases h : b = q
  · subst h
    rw [va_up_self]
    unfold cVR
    simp only [va_up_self]
  · rw [va_up_ne _ _ h]
    unfold cVR
    simp only [va_up_ne _ _ h]
theorem cVR_6 {ci : Nat → Nat} {d : Nat → ClassId} {kd : Nat → Nat} {an : Nat → Nat} {ai : Nat → Nat → Int32} {al : Nat → Nat → Int64} {ar : Nat → Nat → Option Nat} {mX32_tables : Nat → Option Nat} {mX32_mappings : Nat → Option Nat} {mX32_mappingCount : Nat → Int32} {mX32_atoms : Nat → Option Nat} {mX32_atomCount : Nat → Int32} {mX32_spanOf : Nat → Option Nat} {mX32_spanFrom : Nat → Option Nat} {mX32_spanTo : Nat → Option Nat} {mX32_spans : Nat → Int32} {mX32_unions : Nat → Option Nat} {mX32_unionCount : Nat → Int32} {mX32_large : Nat → Int32} {mX32_known : Nat → Int32} {mX32_chosen : Nat → Option Nat} {mX32_kinds : Nat → Option Nat} {mX32_given : Nat → Option Nat} {mX32_rowOf : Nat → Option Nat} {mX32_answers : Nat → Option Nat} {mX32_foundBy : Nat → Option Nat} {mX32_firstBy : Nat → Option Nat} {mX32_lastBy : Nat → Option Nat} {mX32_answerCount : Nat → Int32} {mX32_asked : Nat → Int32} {mX32_tooMany : Nat → Int32} {mX33_cells : Nat → Option Nat} {mX33_keys : Nat → Option Nat} {mX33_size : Nat → Int32} {mX34_mappings : Nat → Option Nat} {mX34_slots : Nat → Option Nat} {mX34_slotCount : Nat → Int32} {mX81_table : Nat → Option Nat} {mX81_predicate : Nat → Int32} {mX81_templates : Nat → Option Nat} {mX81_columns : Nat → Option Nat} {mX82_predicate : Nat → Int32} {mX82_places : Nat → Option Nat} {a : Nat} (hk : kd a = 6) : (cVR ci d kd an ai al ar mX32_tables mX32_mappings mX32_mappingCount mX32_atoms mX32_atomCount mX32_spanOf mX32_spanFrom mX32_spanTo mX32_spans mX32_unions mX32_unionCount mX32_large mX32_known mX32_chosen mX32_kinds mX32_given mX32_rowOf mX32_answers mX32_foundBy mX32_firstBy mX32_lastBy mX32_answerCount mX32_asked mX32_tooMany mX33_cells mX33_keys mX33_size mX34_mappings mX34_slots mX34_slotCount mX81_table mX81_predicate mX81_templates mX81_columns mX82_predicate mX82_places) a = .inl (d 0, an a, .inl (ai a)) := by unfold cVR; simp only [hk]
theorem cVR_6_s {ci : Nat → Nat} {d : Nat → ClassId} {kd : Nat → Nat} {an : Nat → Nat} {ai : Nat → Nat → Int32} {al : Nat → Nat → Int64} {ar : Nat → Nat → Option Nat} {mX32_tables : Nat → Option Nat} {mX32_mappings : Nat → Option Nat} {mX32_mappingCount : Nat → Int32} {mX32_atoms : Nat → Option Nat} {mX32_atomCount : Nat → Int32} {mX32_spanOf : Nat → Option Nat} {mX32_spanFrom : Nat → Option Nat} {mX32_spanTo : Nat → Option Nat} {mX32_spans : Nat → Int32} {mX32_unions : Nat → Option Nat} {mX32_unionCount : Nat → Int32} {mX32_large : Nat → Int32} {mX32_known : Nat → Int32} {mX32_chosen : Nat → Option Nat} {mX32_kinds : Nat → Option Nat} {mX32_given : Nat → Option Nat} {mX32_rowOf : Nat → Option Nat} {mX32_answers : Nat → Option Nat} {mX32_foundBy : Nat → Option Nat} {mX32_firstBy : Nat → Option Nat} {mX32_lastBy : Nat → Option Nat} {mX32_answerCount : Nat → Int32} {mX32_asked : Nat → Int32} {mX32_tooMany : Nat → Int32} {mX33_cells : Nat → Option Nat} {mX33_keys : Nat → Option Nat} {mX33_size : Nat → Int32} {mX34_mappings : Nat → Option Nat} {mX34_slots : Nat → Option Nat} {mX34_slotCount : Nat → Int32} {mX81_table : Nat → Option Nat} {mX81_predicate : Nat → Int32} {mX81_templates : Nat → Option Nat} {mX81_columns : Nat → Option Nat} {mX82_predicate : Nat → Int32} {mX82_places : Nat → Option Nat} {a : Nat} {g : Nat → Int32} (hk : kd a = 6) : va_up (cVR ci d kd an ai al ar mX32_tables mX32_mappings mX32_mappingCount mX32_atoms mX32_atomCount mX32_spanOf mX32_spanFrom mX32_spanTo mX32_spans mX32_unions mX32_unionCount mX32_large mX32_known mX32_chosen mX32_kinds mX32_given mX32_rowOf mX32_answers mX32_foundBy mX32_firstBy mX32_lastBy mX32_answerCount mX32_asked mX32_tooMany mX33_cells mX33_keys mX33_size mX34_mappings mX34_slots mX34_slotCount mX81_table mX81_predicate mX81_templates mX81_columns mX82_predicate mX82_places) a (.inl (d 0, an a, .inl g)) = (cVR ci d kd an (va_up ai a g) al ar mX32_tables mX32_mappings mX32_mappingCount mX32_atoms mX32_atomCount mX32_spanOf mX32_spanFrom mX32_spanTo mX32_spans mX32_unions mX32_unionCount mX32_large mX32_known mX32_chosen mX32_kinds mX32_given mX32_rowOf mX32_answers mX32_foundBy mX32_firstBy mX32_lastBy mX32_answerCount mX32_asked mX32_tooMany mX33_cells mX33_keys mX33_size mX34_mappings mX34_slots mX34_slotCount mX81_table mX81_predicate mX81_templates mX81_columns mX82_predicate mX82_places) := by
  funext b
  by_cases h : b = a
  · subst h
    rw [va_up_self]
    unfold cVR
    rw [hk]
    simp only [va_up_self]
  · rw [va_up_ne _ _ h]
    unfold cVR
    simp only [va_up_ne _ _ h]
theorem cVR_6_n {ci : Nat → Nat} {d : Nat → ClassId} {kd : Nat → Nat} {an : Nat → Nat} {ai : Nat → Nat → Int32} {al : Nat → Nat → Int64} {ar : Nat → Nat → Option Nat} {mX32_tables : Nat → Option Nat} {mX32_mappings : Nat → Option Nat} {mX32_mappingCount : Nat → Int32} {mX32_atoms : Nat → Option Nat} {mX32_atomCount : Nat → Int32} {mX32_spanOf : Nat → Option Nat} {mX32_spanFrom : Nat → Option Nat} {mX32_spanTo : Nat → Option Nat} {mX32_spans : Nat → Int32} {mX32_unions : Nat → Option Nat} {mX32_unionCount : Nat → Int32} {mX32_large : Nat → Int32} {mX32_known : Nat → Int32} {mX32_chosen : Nat → Option Nat} {mX32_kinds : Nat → Option Nat} {mX32_given : Nat → Option Nat} {mX32_rowOf : Nat → Option Nat} {mX32_answers : Nat → Option Nat} {mX32_foundBy : Nat → Option Nat} {mX32_firstBy : Nat → Option Nat} {mX32_lastBy : Nat → Option Nat} {mX32_answerCount : Nat → Int32} {mX32_asked : Nat → Int32} {mX32_tooMany : Nat → Int32} {mX33_cells : Nat → Option Nat} {mX33_keys : Nat → Option Nat} {mX33_size : Nat → Int32} {mX34_mappings : Nat → Option Nat} {mX34_slots : Nat → Option Nat} {mX34_slotCount : Nat → Int32} {mX81_table : Nat → Option Nat} {mX81_predicate : Nat → Int32} {mX81_templates : Nat → Option Nat} {mX81_columns : Nat → Option Nat} {mX82_predicate : Nat → Int32} {mX82_places : Nat → Option Nat} (n q : Nat) : va_up (cVR ci d kd an ai al ar mX32_tables mX32_mappings mX32_mappingCount mX32_atoms mX32_atomCount mX32_spanOf mX32_spanFrom mX32_spanTo mX32_spans mX32_unions mX32_unionCount mX32_large mX32_known mX32_chosen mX32_kinds mX32_given mX32_rowOf mX32_answers mX32_foundBy mX32_firstBy mX32_lastBy mX32_answerCount mX32_asked mX32_tooMany mX33_cells mX33_keys mX33_size mX34_mappings mX34_slots mX34_slotCount mX81_table mX81_predicate mX81_templates mX81_columns mX82_predicate mX82_places) q (.inl (d 0, n, .inl (fun _ => 0))) = (cVR ci d (va_up kd q 6) (va_up an q n) (va_up ai q (fun _ => 0)) al ar mX32_tables mX32_mappings mX32_mappingCount mX32_atoms mX32_atomCount mX32_spanOf mX32_spanFrom mX32_spanTo mX32_spans mX32_unions mX32_unionCount mX32_large mX32_known mX32_chosen mX32_kinds mX32_given mX32_rowOf mX32_answers mX32_foundBy mX32_firstBy mX32_lastBy mX32_answerCount mX32_asked mX32_tooMany mX33_cells mX33_keys mX33_size mX34_mappings mX34_slots mX34_slotCount mX81_table mX81_predicate mX81_templates mX81_columns mX82_predicate mX82_places) := by
  funext b
  by_cases h : b = q
  · subst h
    rw [va_up_self]
    unfold cVR
    simp only [va_up_self]
  · rw [va_up_ne _ _ h]
    unfold cVR
    simp only [va_up_ne _ _ h]
theorem cVR_7 {ci : Nat → Nat} {d : Nat → ClassId} {kd : Nat → Nat} {an : Nat → Nat} {ai : Nat → Nat → Int32} {al : Nat → Nat → Int64} {ar : Nat → Nat → Option Nat} {mX32_tables : Nat → Option Nat} {mX32_mappings : Nat → Option Nat} {mX32_mappingCount : Nat → Int32} {mX32_atoms : Nat → Option Nat} {mX32_atomCount : Nat → Int32} {mX32_spanOf : Nat → Option Nat} {mX32_spanFrom : Nat → Option Nat} {mX32_spanTo : Nat → Option Nat} {mX32_spans : Nat → Int32} {mX32_unions : Nat → Option Nat} {mX32_unionCount : Nat → Int32} {mX32_large : Nat → Int32} {mX32_known : Nat → Int32} {mX32_chosen : Nat → Option Nat} {mX32_kinds : Nat → Option Nat} {mX32_given : Nat → Option Nat} {mX32_rowOf : Nat → Option Nat} {mX32_answers : Nat → Option Nat} {mX32_foundBy : Nat → Option Nat} {mX32_firstBy : Nat → Option Nat} {mX32_lastBy : Nat → Option Nat} {mX32_answerCount : Nat → Int32} {mX32_asked : Nat → Int32} {mX32_tooMany : Nat → Int32} {mX33_cells : Nat → Option Nat} {mX33_keys : Nat → Option Nat} {mX33_size : Nat → Int32} {mX34_mappings : Nat → Option Nat} {mX34_slots : Nat → Option Nat} {mX34_slotCount : Nat → Int32} {mX81_table : Nat → Option Nat} {mX81_predicate : Nat → Int32} {mX81_templates : Nat → Option Nat} {mX81_columns : Nat → Option Nat} {mX82_predicate : Nat → Int32} {mX82_places : Nat → Option Nat} {a : Nat} (hk : kd a = 7) : (cVR ci d kd an ai al ar mX32_tables mX32_mappings mX32_mappingCount mX32_atoms mX32_atomCount mX32_spanOf mX32_spanFrom mX32_spanTo mX32_spans mX32_unions mX32_unionCount mX32_large mX32_known mX32_chosen mX32_kinds mX32_given mX32_rowOf mX32_answers mX32_foundBy mX32_firstBy mX32_lastBy mX32_answerCount mX32_asked mX32_tooMany mX33_cells mX33_keys mX33_size mX34_mappings mX34_slots mX34_slotCount mX81_table mX81_predicate mX81_templates mX81_columns mX82_predicate mX82_places) a = .inl (d 1, an a, .inl (ai a)) := by unfold cVR; simp only [hk]
theorem cVR_7_s {ci : Nat → Nat} {d : Nat → ClassId} {kd : Nat → Nat} {an : Nat → Nat} {ai : Nat → Nat → Int32} {al : Nat → Nat → Int64} {ar : Nat → Nat → Option Nat} {mX32_tables : Nat → Option Nat} {mX32_mappings : Nat → Option Nat} {mX32_mappingCount : Nat → Int32} {mX32_atoms : Nat → Option Nat} {mX32_atomCount : Nat → Int32} {mX32_spanOf : Nat → Option Nat} {mX32_spanFrom : Nat → Option Nat} {mX32_spanTo : Nat → Option Nat} {mX32_spans : Nat → Int32} {mX32_unions : Nat → Option Nat} {mX32_unionCount : Nat → Int32} {mX32_large : Nat → Int32} {mX32_known : Nat → Int32} {mX32_chosen : Nat → Option Nat} {mX32_kinds : Nat → Option Nat} {mX32_given : Nat → Option Nat} {mX32_rowOf : Nat → Option Nat} {mX32_answers : Nat → Option Nat} {mX32_foundBy : Nat → Option Nat} {mX32_firstBy : Nat → Option Nat} {mX32_lastBy : Nat → Option Nat} {mX32_answerCount : Nat → Int32} {mX32_asked : Nat → Int32} {mX32_tooMany : Nat → Int32} {mX33_cells : Nat → Option Nat} {mX33_keys : Nat → Option Nat} {mX33_size : Nat → Int32} {mX34_mappings : Nat → Option Nat} {mX34_slots : Nat → Option Nat} {mX34_slotCount : Nat → Int32} {mX81_table : Nat → Option Nat} {mX81_predicate : Nat → Int32} {mX81_templates : Nat → Option Nat} {mX81_columns : Nat → Option Nat} {mX82_predicate : Nat → Int32} {mX82_places : Nat → Option Nat} {a : Nat} {g : Nat → Int32} (hk : kd a = 7) : va_up (cVR ci d kd an ai al ar mX32_tables mX32_mappings mX32_mappingCount mX32_atoms mX32_atomCount mX32_spanOf mX32_spanFrom mX32_spanTo mX32_spans mX32_unions mX32_unionCount mX32_large mX32_known mX32_chosen mX32_kinds mX32_given mX32_rowOf mX32_answers mX32_foundBy mX32_firstBy mX32_lastBy mX32_answerCount mX32_asked mX32_tooMany mX33_cells mX33_keys mX33_size mX34_mappings mX34_slots mX34_slotCount mX81_table mX81_predicate mX81_templates mX81_columns mX82_predicate mX82_places) a (.inl (d 1, an a, .inl g)) = (cVR ci d kd an (va_up ai a g) al ar mX32_tables mX32_mappings mX32_mappingCount mX32_atoms mX32_atomCount mX32_spanOf mX32_spanFrom mX32_spanTo mX32_spans mX32_unions mX32_unionCount mX32_large mX32_known mX32_chosen mX32_kinds mX32_given mX32_rowOf mX32_answers mX32_foundBy mX32_firstBy mX32_lastBy mX32_answerCount mX32_asked mX32_tooMany mX33_cells mX33_keys mX33_size mX34_mappings mX34_slots mX34_slotCount mX81_table mX81_predicate mX81_templates mX81_columns mX82_predicate mX82_places) := by
  funext b
  by_cases h : b = a
  · subst h
    rw [va_up_self]
    unfold cVR
    rw [hk]
    simp only [va_up_self]
  · rw [va_up_ne _ _ h]
    unfold cVR
    simp only [va_up_ne _ _ h]
theorem cVR_7_n {ci : Nat → Nat} {d : Nat → ClassId} {kd : Nat → Nat} {an : Nat → Nat} {ai : Nat → Nat → Int32} {al : Nat → Nat → Int64} {ar : Nat → Nat → Option Nat} {mX32_tables : Nat → Option Nat} {mX32_mappings : Nat → Option Nat} {mX32_mappingCount : Nat → Int32} {mX32_atoms : Nat → Option Nat} {mX32_atomCount : Nat → Int32} {mX32_spanOf : Nat → Option Nat} {mX32_spanFrom : Nat → Option Nat} {mX32_spanTo : Nat → Option Nat} {mX32_spans : Nat → Int32} {mX32_unions : Nat → Option Nat} {mX32_unionCount : Nat → Int32} {mX32_large : Nat → Int32} {mX32_known : Nat → Int32} {mX32_chosen : Nat → Option Nat} {mX32_kinds : Nat → Option Nat} {mX32_given : Nat → Option Nat} {mX32_rowOf : Nat → Option Nat} {mX32_answers : Nat → Option Nat} {mX32_foundBy : Nat → Option Nat} {mX32_firstBy : Nat → Option Nat} {mX32_lastBy : Nat → Option Nat} {mX32_answerCount : Nat → Int32} {mX32_asked : Nat → Int32} {mX32_tooMany : Nat → Int32} {mX33_cells : Nat → Option Nat} {mX33_keys : Nat → Option Nat} {mX33_size : Nat → Int32} {mX34_mappings : Nat → Option Nat} {mX34_slots : Nat → Option Nat} {mX34_slotCount : Nat → Int32} {mX81_table : Nat → Option Nat} {mX81_predicate : Nat → Int32} {mX81_templates : Nat → Option Nat} {mX81_columns : Nat → Option Nat} {mX82_predicate : Nat → Int32} {mX82_places : Nat → Option Nat} (n q : Nat) : va_up (cVR ci d kd an ai al ar mX32_tables mX32_mappings mX32_mappingCount mX32_atoms mX32_atomCount mX32_spanOf mX32_spanFrom mX32_spanTo mX32_spans mX32_unions mX32_unionCount mX32_large mX32_known mX32_chosen mX32_kinds mX32_given mX32_rowOf mX32_answers mX32_foundBy mX32_firstBy mX32_lastBy mX32_answerCount mX32_asked mX32_tooMany mX33_cells mX33_keys mX33_size mX34_mappings mX34_slots mX34_slotCount mX81_table mX81_predicate mX81_templates mX81_columns mX82_predicate mX82_places) q (.inl (d 1, n, .inl (fun _ => 0))) = (cVR ci d (va_up kd q 7) (va_up an q n) (va_up ai q (fun _ => 0)) al ar mX32_tables mX32_mappings mX32_mappingCount mX32_atoms mX32_atomCount mX32_spanOf mX32_spanFrom mX32_spanTo mX32_spans mX32_unions mX32_unionCount mX32_large mX32_known mX32_chosen mX32_kinds mX32_given mX32_rowOf mX32_answers mX32_foundBy mX32_firstBy mX32_lastBy mX32_answerCount mX32_asked mX32_tooMany mX33_cells mX33_keys mX33_size mX34_mappings mX34_slots mX34_slotCount mX81_table mX81_predicate mX81_templates mX81_columns mX82_predicate mX82_places) := by
  funext b
  by_cases h : b = q
  · subst h
    rw [va_up_self]
    unfold cVR
    simp only [va_up_self]
  · rw [va_up_ne _ _ h]
    unfold cVR
    simp only [va_up_ne _ _ h]
theorem cVR_8 {ci : Nat → Nat} {d : Nat → ClassId} {kd : Nat → Nat} {an : Nat → Nat} {ai : Nat → Nat → Int32} {al : Nat → Nat → Int64} {ar : Nat → Nat → Option Nat} {mX32_tables : Nat → Option Nat} {mX32_mappings : Nat → Option Nat} {mX32_mappingCount : Nat → Int32} {mX32_atoms : Nat → Option Nat} {mX32_atomCount : Nat → Int32} {mX32_spanOf : Nat → Option Nat} {mX32_spanFrom : Nat → Option Nat} {mX32_spanTo : Nat → Option Nat} {mX32_spans : Nat → Int32} {mX32_unions : Nat → Option Nat} {mX32_unionCount : Nat → Int32} {mX32_large : Nat → Int32} {mX32_known : Nat → Int32} {mX32_chosen : Nat → Option Nat} {mX32_kinds : Nat → Option Nat} {mX32_given : Nat → Option Nat} {mX32_rowOf : Nat → Option Nat} {mX32_answers : Nat → Option Nat} {mX32_foundBy : Nat → Option Nat} {mX32_firstBy : Nat → Option Nat} {mX32_lastBy : Nat → Option Nat} {mX32_answerCount : Nat → Int32} {mX32_asked : Nat → Int32} {mX32_tooMany : Nat → Int32} {mX33_cells : Nat → Option Nat} {mX33_keys : Nat → Option Nat} {mX33_size : Nat → Int32} {mX34_mappings : Nat → Option Nat} {mX34_slots : Nat → Option Nat} {mX34_slotCount : Nat → Int32} {mX81_table : Nat → Option Nat} {mX81_predicate : Nat → Int32} {mX81_templates : Nat → Option Nat} {mX81_columns : Nat → Option Nat} {mX82_predicate : Nat → Int32} {mX82_places : Nat → Option Nat} {a : Nat} (hk : kd a = 8) : (cVR ci d kd an ai al ar mX32_tables mX32_mappings mX32_mappingCount mX32_atoms mX32_atomCount mX32_spanOf mX32_spanFrom mX32_spanTo mX32_spans mX32_unions mX32_unionCount mX32_large mX32_known mX32_chosen mX32_kinds mX32_given mX32_rowOf mX32_answers mX32_foundBy mX32_firstBy mX32_lastBy mX32_answerCount mX32_asked mX32_tooMany mX33_cells mX33_keys mX33_size mX34_mappings mX34_slots mX34_slotCount mX81_table mX81_predicate mX81_templates mX81_columns mX82_predicate mX82_places) a = .inl (d 2, an a, .inr (.inr (.inr (.inr (ar a))))) := by unfold cVR; simp only [hk]
theorem cVR_8_s {ci : Nat → Nat} {d : Nat → ClassId} {kd : Nat → Nat} {an : Nat → Nat} {ai : Nat → Nat → Int32} {al : Nat → Nat → Int64} {ar : Nat → Nat → Option Nat} {mX32_tables : Nat → Option Nat} {mX32_mappings : Nat → Option Nat} {mX32_mappingCount : Nat → Int32} {mX32_atoms : Nat → Option Nat} {mX32_atomCount : Nat → Int32} {mX32_spanOf : Nat → Option Nat} {mX32_spanFrom : Nat → Option Nat} {mX32_spanTo : Nat → Option Nat} {mX32_spans : Nat → Int32} {mX32_unions : Nat → Option Nat} {mX32_unionCount : Nat → Int32} {mX32_large : Nat → Int32} {mX32_known : Nat → Int32} {mX32_chosen : Nat → Option Nat} {mX32_kinds : Nat → Option Nat} {mX32_given : Nat → Option Nat} {mX32_rowOf : Nat → Option Nat} {mX32_answers : Nat → Option Nat} {mX32_foundBy : Nat → Option Nat} {mX32_firstBy : Nat → Option Nat} {mX32_lastBy : Nat → Option Nat} {mX32_answerCount : Nat → Int32} {mX32_asked : Nat → Int32} {mX32_tooMany : Nat → Int32} {mX33_cells : Nat → Option Nat} {mX33_keys : Nat → Option Nat} {mX33_size : Nat → Int32} {mX34_mappings : Nat → Option Nat} {mX34_slots : Nat → Option Nat} {mX34_slotCount : Nat → Int32} {mX81_table : Nat → Option Nat} {mX81_predicate : Nat → Int32} {mX81_templates : Nat → Option Nat} {mX81_columns : Nat → Option Nat} {mX82_predicate : Nat → Int32} {mX82_places : Nat → Option Nat} {a : Nat} {g : Nat → Option Nat} (hk : kd a = 8) : va_up (cVR ci d kd an ai al ar mX32_tables mX32_mappings mX32_mappingCount mX32_atoms mX32_atomCount mX32_spanOf mX32_spanFrom mX32_spanTo mX32_spans mX32_unions mX32_unionCount mX32_large mX32_known mX32_chosen mX32_kinds mX32_given mX32_rowOf mX32_answers mX32_foundBy mX32_firstBy mX32_lastBy mX32_answerCount mX32_asked mX32_tooMany mX33_cells mX33_keys mX33_size mX34_mappings mX34_slots mX34_slotCount mX81_table mX81_predicate mX81_templates mX81_columns mX82_predicate mX82_places) a (.inl (d 2, an a, .inr (.inr (.inr (.inr g))))) = (cVR ci d kd an ai al (va_up ar a g) mX32_tables mX32_mappings mX32_mappingCount mX32_atoms mX32_atomCount mX32_spanOf mX32_spanFrom mX32_spanTo mX32_spans mX32_unions mX32_unionCount mX32_large mX32_known mX32_chosen mX32_kinds mX32_given mX32_rowOf mX32_answers mX32_foundBy mX32_firstBy mX32_lastBy mX32_answerCount mX32_asked mX32_tooMany mX33_cells mX33_keys mX33_size mX34_mappings mX34_slots mX34_slotCount mX81_table mX81_predicate mX81_templates mX81_columns mX82_predicate mX82_places) := by
  funext b
  by_cases h : b = a
  · subst h
    rw [va_up_self]
    unfold cVR
    rw [hk]
    simp only [va_up_self]
  · rw [va_up_ne _ _ h]
    unfold cVR
    simp only [va_up_ne _ _ h]
theorem cVR_8_n {ci : Nat → Nat} {d : Nat → ClassId} {kd : Nat → Nat} {an : Nat → Nat} {ai : Nat → Nat → Int32} {al : Nat → Nat → Int64} {ar : Nat → Nat → Option Nat} {mX32_tables : Nat → Option Nat} {mX32_mappings : Nat → Option Nat} {mX32_mappingCount : Nat → Int32} {mX32_atoms : Nat → Option Nat} {mX32_atomCount : Nat → Int32} {mX32_spanOf : Nat → Option Nat} {mX32_spanFrom : Nat → Option Nat} {mX32_spanTo : Nat → Option Nat} {mX32_spans : Nat → Int32} {mX32_unions : Nat → Option Nat} {mX32_unionCount : Nat → Int32} {mX32_large : Nat → Int32} {mX32_known : Nat → Int32} {mX32_chosen : Nat → Option Nat} {mX32_kinds : Nat → Option Nat} {mX32_given : Nat → Option Nat} {mX32_rowOf : Nat → Option Nat} {mX32_answers : Nat → Option Nat} {mX32_foundBy : Nat → Option Nat} {mX32_firstBy : Nat → Option Nat} {mX32_lastBy : Nat → Option Nat} {mX32_answerCount : Nat → Int32} {mX32_asked : Nat → Int32} {mX32_tooMany : Nat → Int32} {mX33_cells : Nat → Option Nat} {mX33_keys : Nat → Option Nat} {mX33_size : Nat → Int32} {mX34_mappings : Nat → Option Nat} {mX34_slots : Nat → Option Nat} {mX34_slotCount : Nat → Int32} {mX81_table : Nat → Option Nat} {mX81_predicate : Nat → Int32} {mX81_templates : Nat → Option Nat} {mX81_columns : Nat → Option Nat} {mX82_predicate : Nat → Int32} {mX82_places : Nat → Option Nat} (n q : Nat) : va_up (cVR ci d kd an ai al ar mX32_tables mX32_mappings mX32_mappingCount mX32_atoms mX32_atomCount mX32_spanOf mX32_spanFrom mX32_spanTo mX32_spans mX32_unions mX32_unionCount mX32_large mX32_known mX32_chosen mX32_kinds mX32_given mX32_rowOf mX32_answers mX32_foundBy mX32_firstBy mX32_lastBy mX32_answerCount mX32_asked mX32_tooMany mX33_cells mX33_keys mX33_size mX34_mappings mX34_slots mX34_slotCount mX81_table mX81_predicate mX81_templates mX81_columns mX82_predicate mX82_places) q (.inl (d 2, n, .inr (.inr (.inr (.inr (fun _ => none)))))) = (cVR ci d (va_up kd q 8) (va_up an q n) ai al (va_up ar q (fun _ => none)) mX32_tables mX32_mappings mX32_mappingCount mX32_atoms mX32_atomCount mX32_spanOf mX32_spanFrom mX32_spanTo mX32_spans mX32_unions mX32_unionCount mX32_large mX32_known mX32_chosen mX32_kinds mX32_given mX32_rowOf mX32_answers mX32_foundBy mX32_firstBy mX32_lastBy mX32_answerCount mX32_asked mX32_tooMany mX33_cells mX33_keys mX33_size mX34_mappings mX34_slots mX34_slotCount mX81_table mX81_predicate mX81_templates mX81_columns mX82_predicate mX82_places) := by
  funext b
  by_cases h : b = q
  · subst h
    rw [va_up_self]
    unfold cVR
    simp only [va_up_self]
  · rw [va_up_ne _ _ h]
    unfold cVR
    simp only [va_up_ne _ _ h]
theorem cVR_9 {ci : Nat → Nat} {d : Nat → ClassId} {kd : Nat → Nat} {an : Nat → Nat} {ai : Nat → Nat → Int32} {al : Nat → Nat → Int64} {ar : Nat → Nat → Option Nat} {mX32_tables : Nat → Option Nat} {mX32_mappings : Nat → Option Nat} {mX32_mappingCount : Nat → Int32} {mX32_atoms : Nat → Option Nat} {mX32_atomCount : Nat → Int32} {mX32_spanOf : Nat → Option Nat} {mX32_spanFrom : Nat → Option Nat} {mX32_spanTo : Nat → Option Nat} {mX32_spans : Nat → Int32} {mX32_unions : Nat → Option Nat} {mX32_unionCount : Nat → Int32} {mX32_large : Nat → Int32} {mX32_known : Nat → Int32} {mX32_chosen : Nat → Option Nat} {mX32_kinds : Nat → Option Nat} {mX32_given : Nat → Option Nat} {mX32_rowOf : Nat → Option Nat} {mX32_answers : Nat → Option Nat} {mX32_foundBy : Nat → Option Nat} {mX32_firstBy : Nat → Option Nat} {mX32_lastBy : Nat → Option Nat} {mX32_answerCount : Nat → Int32} {mX32_asked : Nat → Int32} {mX32_tooMany : Nat → Int32} {mX33_cells : Nat → Option Nat} {mX33_keys : Nat → Option Nat} {mX33_size : Nat → Int32} {mX34_mappings : Nat → Option Nat} {mX34_slots : Nat → Option Nat} {mX34_slotCount : Nat → Int32} {mX81_table : Nat → Option Nat} {mX81_predicate : Nat → Int32} {mX81_templates : Nat → Option Nat} {mX81_columns : Nat → Option Nat} {mX82_predicate : Nat → Int32} {mX82_places : Nat → Option Nat} {a : Nat} (hk : kd a = 9) : (cVR ci d kd an ai al ar mX32_tables mX32_mappings mX32_mappingCount mX32_atoms mX32_atomCount mX32_spanOf mX32_spanFrom mX32_spanTo mX32_spans mX32_unions mX32_unionCount mX32_large mX32_known mX32_chosen mX32_kinds mX32_given mX32_rowOf mX32_answers mX32_foundBy mX32_firstBy mX32_lastBy mX32_answerCount mX32_asked mX32_tooMany mX33_cells mX33_keys mX33_size mX34_mappings mX34_slots mX34_slotCount mX81_table mX81_predicate mX81_templates mX81_columns mX82_predicate mX82_places) a = .inl (d 3, an a, .inr (.inr (.inr (.inr (ar a))))) := by unfold cVR; simp only [hk]
theorem cVR_9_s {ci : Nat → Nat} {d : Nat → ClassId} {kd : Nat → Nat} {an : Nat → Nat} {ai : Nat → Nat → Int32} {al : Nat → Nat → Int64} {ar : Nat → Nat → Option Nat} {mX32_tables : Nat → Option Nat} {mX32_mappings : Nat → Option Nat} {mX32_mappingCount : Nat → Int32} {mX32_atoms : Nat → Option Nat} {mX32_atomCount : Nat → Int32} {mX32_spanOf : Nat → Option Nat} {mX32_spanFrom : Nat → Option Nat} {mX32_spanTo : Nat → Option Nat} {mX32_spans : Nat → Int32} {mX32_unions : Nat → Option Nat} {mX32_unionCount : Nat → Int32} {mX32_large : Nat → Int32} {mX32_known : Nat → Int32} {mX32_chosen : Nat → Option Nat} {mX32_kinds : Nat → Option Nat} {mX32_given : Nat → Option Nat} {mX32_rowOf : Nat → Option Nat} {mX32_answers : Nat → Option Nat} {mX32_foundBy : Nat → Option Nat} {mX32_firstBy : Nat → Option Nat} {mX32_lastBy : Nat → Option Nat} {mX32_answerCount : Nat → Int32} {mX32_asked : Nat → Int32} {mX32_tooMany : Nat → Int32} {mX33_cells : Nat → Option Nat} {mX33_keys : Nat → Option Nat} {mX33_size : Nat → Int32} {mX34_mappings : Nat → Option Nat} {mX34_slots : Nat → Option Nat} {mX34_slotCount : Nat → Int32} {mX81_table : Nat → Option Nat} {mX81_predicate : Nat → Int32} {mX81_templates : Nat → Option Nat} {mX81_columns : Nat → Option Nat} {mX82_predicate : Nat → Int32} {mX82_places : Nat → Option Nat} {a : Nat} {g : Nat → Option Nat} (hk : kd a = 9) : va_up (cVR ci d kd an ai al ar mX32_tables mX32_mappings mX32_mappingCount mX32_atoms mX32_atomCount mX32_spanOf mX32_spanFrom mX32_spanTo mX32_spans mX32_unions mX32_unionCount mX32_large mX32_known mX32_chosen mX32_kinds mX32_given mX32_rowOf mX32_answers mX32_foundBy mX32_firstBy mX32_lastBy mX32_answerCount mX32_asked mX32_tooMany mX33_cells mX33_keys mX33_size mX34_mappings mX34_slots mX34_slotCount mX81_table mX81_predicate mX81_templates mX81_columns mX82_predicate mX82_places) a (.inl (d 3, an a, .inr (.inr (.inr (.inr g))))) = (cVR ci d kd an ai al (va_up ar a g) mX32_tables mX32_mappings mX32_mappingCount mX32_atoms mX32_atomCount mX32_spanOf mX32_spanFrom mX32_spanTo mX32_spans mX32_unions mX32_unionCount mX32_large mX32_known mX32_chosen mX32_kinds mX32_given mX32_rowOf mX32_answers mX32_foundBy mX32_firstBy mX32_lastBy mX32_answerCount mX32_asked mX32_tooMany mX33_cells mX33_keys mX33_size mX34_mappings mX34_slots mX34_slotCount mX81_table mX81_predicate mX81_templates mX81_columns mX82_predicate mX82_places) := by
  funext b
  by_cases h : b = a
  · subst h
    rw [va_up_self]
    unfold cVR
    rw [hk]
    simp only [va_up_self]
  · rw [va_up_ne _ _ h]
    unfold cVR
    simp only [va_up_ne _ _ h]
theorem cVR_9_n {ci : Nat → Nat} {d : Nat → ClassId} {kd : Nat → Nat} {an : Nat → Nat} {ai : Nat → Nat → Int32} {al : Nat → Nat → Int64} {ar : Nat → Nat → Option Nat} {mX32_tables : Nat → Option Nat} {mX32_mappings : Nat → Option Nat} {mX32_mappingCount : Nat → Int32} {mX32_atoms : Nat → Option Nat} {mX32_atomCount : Nat → Int32} {mX32_spanOf : Nat → Option Nat} {mX32_spanFrom : Nat → Option Nat} {mX32_spanTo : Nat → Option Nat} {mX32_spans : Nat → Int32} {mX32_unions : Nat → Option Nat} {mX32_unionCount : Nat → Int32} {mX32_large : Nat → Int32} {mX32_known : Nat → Int32} {mX32_chosen : Nat → Option Nat} {mX32_kinds : Nat → Option Nat} {mX32_given : Nat → Option Nat} {mX32_rowOf : Nat → Option Nat} {mX32_answers : Nat → Option Nat} {mX32_foundBy : Nat → Option Nat} {mX32_firstBy : Nat → Option Nat} {mX32_lastBy : Nat → Option Nat} {mX32_answerCount : Nat → Int32} {mX32_asked : Nat → Int32} {mX32_tooMany : Nat → Int32} {mX33_cells : Nat → Option Nat} {mX33_keys : Nat → Option Nat} {mX33_size : Nat → Int32} {mX34_mappings : Nat → Option Nat} {mX34_slots : Nat → Option Nat} {mX34_slotCount : Nat → Int32} {mX81_table : Nat → Option Nat} {mX81_predicate : Nat → Int32} {mX81_templates : Nat → Option Nat} {mX81_columns : Nat → Option Nat} {mX82_predicate : Nat → Int32} {mX82_places : Nat → Option Nat} (n q : Nat) : va_up (cVR ci d kd an ai al ar mX32_tables mX32_mappings mX32_mappingCount mX32_atoms mX32_atomCount mX32_spanOf mX32_spanFrom mX32_spanTo mX32_spans mX32_unions mX32_unionCount mX32_large mX32_known mX32_chosen mX32_kinds mX32_given mX32_rowOf mX32_answers mX32_foundBy mX32_firstBy mX32_lastBy mX32_answerCount mX32_asked mX32_tooMany mX33_cells mX33_keys mX33_size mX34_mappings mX34_slots mX34_slotCount mX81_table mX81_predicate mX81_templates mX81_columns mX82_predicate mX82_places) q (.inl (d 3, n, .inr (.inr (.inr (.inr (fun _ => none)))))) = (cVR ci d (va_up kd q 9) (va_up an q n) ai al (va_up ar q (fun _ => none)) mX32_tables mX32_mappings mX32_mappingCount mX32_atoms mX32_atomCount mX32_spanOf mX32_spanFrom mX32_spanTo mX32_spans mX32_unions mX32_unionCount mX32_large mX32_known mX32_chosen mX32_kinds mX32_given mX32_rowOf mX32_answers mX32_foundBy mX32_firstBy mX32_lastBy mX32_answerCount mX32_asked mX32_tooMany mX33_cells mX33_keys mX33_size mX34_mappings mX34_slots mX34_slotCount mX81_table mX81_predicate mX81_templates mX81_columns mX82_predicate mX82_places) := by
  funext b
  by_cases h : b = q
  · subst h
    rw [va_up_self]
    unfold cVR
    simp only [va_up_self]
  · rw [va_up_ne _ _ h]
    unfold cVR
    simp only [va_up_ne _ _ h]
theorem cVR_10 {ci : Nat → Nat} {d : Nat → ClassId} {kd : Nat → Nat} {an : Nat → Nat} {ai : Nat → Nat → Int32} {al : Nat → Nat → Int64} {ar : Nat → Nat → Option Nat} {mX32_tables : Nat → Option Nat} {mX32_mappings : Nat → Option Nat} {mX32_mappingCount : Nat → Int32} {mX32_atoms : Nat → Option Nat} {mX32_atomCount : Nat → Int32} {mX32_spanOf : Nat → Option Nat} {mX32_spanFrom : Nat → Option Nat} {mX32_spanTo : Nat → Option Nat} {mX32_spans : Nat → Int32} {mX32_unions : Nat → Option Nat} {mX32_unionCount : Nat → Int32} {mX32_large : Nat → Int32} {mX32_known : Nat → Int32} {mX32_chosen : Nat → Option Nat} {mX32_kinds : Nat → Option Nat} {mX32_given : Nat → Option Nat} {mX32_rowOf : Nat → Option Nat} {mX32_answers : Nat → Option Nat} {mX32_foundBy : Nat → Option Nat} {mX32_firstBy : Nat → Option Nat} {mX32_lastBy : Nat → Option Nat} {mX32_answerCount : Nat → Int32} {mX32_asked : Nat → Int32} {mX32_tooMany : Nat → Int32} {mX33_cells : Nat → Option Nat} {mX33_keys : Nat → Option Nat} {mX33_size : Nat → Int32} {mX34_mappings : Nat → Option Nat} {mX34_slots : Nat → Option Nat} {mX34_slotCount : Nat → Int32} {mX81_table : Nat → Option Nat} {mX81_predicate : Nat → Int32} {mX81_templates : Nat → Option Nat} {mX81_columns : Nat → Option Nat} {mX82_predicate : Nat → Int32} {mX82_places : Nat → Option Nat} {a : Nat} (hk : kd a = 10) : (cVR ci d kd an ai al ar mX32_tables mX32_mappings mX32_mappingCount mX32_atoms mX32_atomCount mX32_spanOf mX32_spanFrom mX32_spanTo mX32_spans mX32_unions mX32_unionCount mX32_large mX32_known mX32_chosen mX32_kinds mX32_given mX32_rowOf mX32_answers mX32_foundBy mX32_firstBy mX32_lastBy mX32_answerCount mX32_asked mX32_tooMany mX33_cells mX33_keys mX33_size mX34_mappings mX34_slots mX34_slotCount mX81_table mX81_predicate mX81_templates mX81_columns mX82_predicate mX82_places) a = .inl (d 4, an a, .inr (.inr (.inr (.inr (ar a))))) := by unfold cVR; simp only [hk]
theorem cVR_10_s {ci : Nat → Nat} {d : Nat → ClassId} {kd : Nat → Nat} {an : Nat → Nat} {ai : Nat → Nat → Int32} {al : Nat → Nat → Int64} {ar : Nat → Nat → Option Nat} {mX32_tables : Nat → Option Nat} {mX32_mappings : Nat → Option Nat} {mX32_mappingCount : Nat → Int32} {mX32_atoms : Nat → Option Nat} {mX32_atomCount : Nat → Int32} {mX32_spanOf : Nat → Option Nat} {mX32_spanFrom : Nat → Option Nat} {mX32_spanTo : Nat → Option Nat} {mX32_spans : Nat → Int32} {mX32_unions : Nat → Option Nat} {mX32_unionCount : Nat → Int32} {mX32_large : Nat → Int32} {mX32_known : Nat → Int32} {mX32_chosen : Nat → Option Nat} {mX32_kinds : Nat → Option Nat} {mX32_given : Nat → Option Nat} {mX32_rowOf : Nat → Option Nat} {mX32_answers : Nat → Option Nat} {mX32_foundBy : Nat → Option Nat} {mX32_firstBy : Nat → Option Nat} {mX32_lastBy : Nat → Option Nat} {mX32_answerCount : Nat → Int32} {mX32_asked : Nat → Int32} {mX32_tooMany : Nat → Int32} {mX33_cells : Nat → Option Nat} {mX33_keys : Nat → Option Nat} {mX33_size : Nat → Int32} {mX34_mappings : Nat → Option Nat} {mX34_slots : Nat → Option Nat} {mX34_slotCount : Nat → Int32} {mX81_table : Nat → Option Nat} {mX81_predicate : Nat → Int32} {mX81_templates : Nat → Option Nat} {mX81_columns : Nat → Option Nat} {mX82_predicate : Nat → Int32} {mX82_places : Nat → Option Nat} {a : Nat} {g : Nat → Option Nat} (hk : kd a = 10) : va_up (cVR ci d kd an ai al ar mX32_tables mX32_mappings mX32_mappingCount mX32_atoms mX32_atomCount mX32_spanOf mX32_spanFrom mX32_spanTo mX32_spans mX32_unions mX32_unionCount mX32_large mX32_known mX32_chosen mX32_kinds mX32_given mX32_rowOf mX32_answers mX32_foundBy mX32_firstBy mX32_lastBy mX32_answerCount mX32_asked mX32_tooMany mX33_cells mX33_keys mX33_size mX34_mappings mX34_slots mX34_slotCount mX81_table mX81_predicate mX81_templates mX81_columns mX82_predicate mX82_places) a (.inl (d 4, an a, .inr (.inr (.inr (.inr g))))) = (cVR ci d kd an ai al (va_up ar a g) mX32_tables mX32_mappings mX32_mappingCount mX32_atoms mX32_atomCount mX32_spanOf mX32_spanFrom mX32_spanTo mX32_spans mX32_unions mX32_unionCount mX32_large mX32_known mX32_chosen mX32_kinds mX32_given mX32_rowOf mX32_answers mX32_foundBy mX32_firstBy mX32_lastBy mX32_answerCount mX32_asked mX32_tooMany mX33_cells mX33_keys mX33_size mX34_mappings mX34_slots mX34_slotCount mX81_table mX81_predicate mX81_templates mX81_columns mX82_predicate mX82_places) := by
  funext b
  by_cases h : b = a
  · subst h
    rw [va_up_self]
    unfold cVR
    rw [hk]
    simp only [va_up_self]
  · rw [va_up_ne _ _ h]
    unfold cVR
    simp only [va_up_ne _ _ h]
theorem cVR_10_n {ci : Nat → Nat} {d : Nat → ClassId} {kd : Nat → Nat} {an : Nat → Nat} {ai : Nat → Nat → Int32} {al : Nat → Nat → Int64} {ar : Nat → Nat → Option Nat} {mX32_tables : Nat → Option Nat} {mX32_mappings : Nat → Option Nat} {mX32_mappingCount : Nat → Int32} {mX32_atoms : Nat → Option Nat} {mX32_atomCount : Nat → Int32} {mX32_spanOf : Nat → Option Nat} {mX32_spanFrom : Nat → Option Nat} {mX32_spanTo : Nat → Option Nat} {mX32_spans : Nat → Int32} {mX32_unions : Nat → Option Nat} {mX32_unionCount : Nat → Int32} {mX32_large : Nat → Int32} {mX32_known : Nat → Int32} {mX32_chosen : Nat → Option Nat} {mX32_kinds : Nat → Option Nat} {mX32_given : Nat → Option Nat} {mX32_rowOf : Nat → Option Nat} {mX32_answers : Nat → Option Nat} {mX32_foundBy : Nat → Option Nat} {mX32_firstBy : Nat → Option Nat} {mX32_lastBy : Nat → Option Nat} {mX32_answerCount : Nat → Int32} {mX32_asked : Nat → Int32} {mX32_tooMany : Nat → Int32} {mX33_cells : Nat → Option Nat} {mX33_keys : Nat → Option Nat} {mX33_size : Nat → Int32} {mX34_mappings : Nat → Option Nat} {mX34_slots : Nat → Option Nat} {mX34_slotCount : Nat → Int32} {mX81_table : Nat → Option Nat} {mX81_predicate : Nat → Int32} {mX81_templates : Nat → Option Nat} {mX81_columns : Nat → Option Nat} {mX82_predicate : Nat → Int32} {mX82_places : Nat → Option Nat} (n q : Nat) : va_up (cVR ci d kd an ai al ar mX32_tables mX32_mappings mX32_mappingCount mX32_atoms mX32_atomCount mX32_spanOf mX32_spanFrom mX32_spanTo mX32_spans mX32_unions mX32_unionCount mX32_large mX32_known mX32_chosen mX32_kinds mX32_given mX32_rowOf mX32_answers mX32_foundBy mX32_firstBy mX32_lastBy mX32_answerCount mX32_asked mX32_tooMany mX33_cells mX33_keys mX33_size mX34_mappings mX34_slots mX34_slotCount mX81_table mX81_predicate mX81_templates mX81_columns mX82_predicate mX82_places) q (.inl (d 4, n, .inr (.inr (.inr (.inr (fun _ => none)))))) = (cVR ci d (va_up kd q 10) (va_up an q n) ai al (va_up ar q (fun _ => none)) mX32_tables mX32_mappings mX32_mappingCount mX32_atoms mX32_atomCount mX32_spanOf mX32_spanFrom mX32_spanTo mX32_spans mX32_unions mX32_unionCount mX32_large mX32_known mX32_chosen mX32_kinds mX32_given mX32_rowOf mX32_answers mX32_foundBy mX32_firstBy mX32_lastBy mX32_answerCount mX32_asked mX32_tooMany mX33_cells mX33_keys mX33_size mX34_mappings mX34_slots mX34_slotCount mX81_table mX81_predicate mX81_templates mX81_columns mX82_predicate mX82_places) := by
  funext b
  by_cases h : b = q
  · subst h
    rw [va_up_self]
    unfold cVR
    simp only [va_up_self]
  · rw [va_up_ne _ _ h]
    unfold cVR
    simp only [va_up_ne _ _ h]
theorem cVR_11 {ci : Nat → Nat} {d : Nat → ClassId} {kd : Nat → Nat} {an : Nat → Nat} {ai : Nat → Nat → Int32} {al : Nat → Nat → Int64} {ar : Nat → Nat → Option Nat} {mX32_tables : Nat → Option Nat} {mX32_mappings : Nat → Option Nat} {mX32_mappingCount : Nat → Int32} {mX32_atoms : Nat → Option Nat} {mX32_atomCount : Nat → Int32} {mX32_spanOf : Nat → Option Nat} {mX32_spanFrom : Nat → Option Nat} {mX32_spanTo : Nat → Option Nat} {mX32_spans : Nat → Int32} {mX32_unions : Nat → Option Nat} {mX32_unionCount : Nat → Int32} {mX32_large : Nat → Int32} {mX32_known : Nat → Int32} {mX32_chosen : Nat → Option Nat} {mX32_kinds : Nat → Option Nat} {mX32_given : Nat → Option Nat} {mX32_rowOf : Nat → Option Nat} {mX32_answers : Nat → Option Nat} {mX32_foundBy : Nat → Option Nat} {mX32_firstBy : Nat → Option Nat} {mX32_lastBy : Nat → Option Nat} {mX32_answerCount : Nat → Int32} {mX32_asked : Nat → Int32} {mX32_tooMany : Nat → Int32} {mX33_cells : Nat → Option Nat} {mX33_keys : Nat → Option Nat} {mX33_size : Nat → Int32} {mX34_mappings : Nat → Option Nat} {mX34_slots : Nat → Option Nat} {mX34_slotCount : Nat → Int32} {mX81_table : Nat → Option Nat} {mX81_predicate : Nat → Int32} {mX81_templates : Nat → Option Nat} {mX81_columns : Nat → Option Nat} {mX82_predicate : Nat → Int32} {mX82_places : Nat → Option Nat} {a : Nat} (hk : kd a = 11) : (cVR ci d kd an ai al ar mX32_tables mX32_mappings mX32_mappingCount mX32_atoms mX32_atomCount mX32_spanOf mX32_spanFrom mX32_spanTo mX32_spans mX32_unions mX32_unionCount mX32_large mX32_known mX32_chosen mX32_kinds mX32_given mX32_rowOf mX32_answers mX32_foundBy mX32_firstBy mX32_lastBy mX32_answerCount mX32_asked mX32_tooMany mX33_cells mX33_keys mX33_size mX34_mappings mX34_slots mX34_slotCount mX81_table mX81_predicate mX81_templates mX81_columns mX82_predicate mX82_places) a = .inl (d 5, an a, .inr (.inr (.inr (.inr (ar a))))) := by unfold cVR; simp only [hk]
theorem cVR_11_s {ci : Nat → Nat} {d : Nat → ClassId} {kd : Nat → Nat} {an : Nat → Nat} {ai : Nat → Nat → Int32} {al : Nat → Nat → Int64} {ar : Nat → Nat → Option Nat} {mX32_tables : Nat → Option Nat} {mX32_mappings : Nat → Option Nat} {mX32_mappingCount : Nat → Int32} {mX32_atoms : Nat → Option Nat} {mX32_atomCount : Nat → Int32} {mX32_spanOf : Nat → Option Nat} {mX32_spanFrom : Nat → Option Nat} {mX32_spanTo : Nat → Option Nat} {mX32_spans : Nat → Int32} {mX32_unions : Nat → Option Nat} {mX32_unionCount : Nat → Int32} {mX32_large : Nat → Int32} {mX32_known : Nat → Int32} {mX32_chosen : Nat → Option Nat} {mX32_kinds : Nat → Option Nat} {mX32_given : Nat → Option Nat} {mX32_rowOf : Nat → Option Nat} {mX32_answers : Nat → Option Nat} {mX32_foundBy : Nat → Option Nat} {mX32_firstBy : Nat → Option Nat} {mX32_lastBy : Nat → Option Nat} {mX32_answerCount : Nat → Int32} {mX32_asked : Nat → Int32} {mX32_tooMany : Nat → Int32} {mX33_cells : Nat → Option Nat} {mX33_keys : Nat → Option Nat} {mX33_size : Nat → Int32} {mX34_mappings : Nat → Option Nat} {mX34_slots : Nat → Option Nat} {mX34_slotCount : Nat → Int32} {mX81_table : Nat → Option Nat} {mX81_predicate : Nat → Int32} {mX81_templates : Nat → Option Nat} {mX81_columns : Nat → Option Nat} {mX82_predicate : Nat → Int32} {mX82_places : Nat → Option Nat} {a : Nat} {g : Nat → Option Nat} (hk : kd a = 11) : va_up (cVR ci d kd an ai al ar mX32_tables mX32_mappings mX32_mappingCount mX32_atoms mX32_atomCount mX32_spanOf mX32_spanFrom mX32_spanTo mX32_spans mX32_unions mX32_unionCount mX32_large mX32_known mX32_chosen mX32_kinds mX32_given mX32_rowOf mX32_answers mX32_foundBy mX32_firstBy mX32_lastBy mX32_answerCount mX32_asked mX32_tooMany mX33_cells mX33_keys mX33_size mX34_mappings mX34_slots mX34_slotCount mX81_table mX81_predicate mX81_templates mX81_columns mX82_predicate mX82_places) a (.inl (d 5, an a, .inr (.inr (.inr (.inr g))))) = (cVR ci d kd an ai al (va_up ar a g) mX32_tables mX32_mappings mX32_mappingCount mX32_atoms mX32_atomCount mX32_spanOf mX32_spanFrom mX32_spanTo mX32_spans mX32_unions mX32_unionCount mX32_large mX32_known mX32_chosen mX32_kinds mX32_given mX32_rowOf mX32_answers mX32_foundBy mX32_firstBy mX32_lastBy mX32_answerCount mX32_asked mX32_tooMany mX33_cells mX33_keys mX33_size mX34_mappings mX34_slots mX34_slotCount mX81_table mX81_predicate mX81_templates mX81_columns mX82_predicate mX82_places) := by
  funext b
  by_cases h : b = a
  · subst h
    rw [va_up_self]
    unfold cVR
    rw [hk]
    simp only [va_up_self]
  · rw [va_up_ne _ _ h]
    unfold cVR
    simp only [va_up_ne _ _ h]
theorem cVR_11_n {ci : Nat → Nat} {d : Nat → ClassId} {kd : Nat → Nat} {an : Nat → Nat} {ai : Nat → Nat → Int32} {al : Nat → Nat → Int64} {ar : Nat → Nat → Option Nat} {mX32_tables : Nat → Option Nat} {mX32_mappings : Nat → Option Nat} {mX32_mappingCount : Nat → Int32} {mX32_atoms : Nat → Option Nat} {mX32_atomCount : Nat → Int32} {mX32_spanOf : Nat → Option Nat} {mX32_spanFrom : Nat → Option Nat} {mX32_spanTo : Nat → Option Nat} {mX32_spans : Nat → Int32} {mX32_unions : Nat → Option Nat} {mX32_unionCount : Nat → Int32} {mX32_large : Nat → Int32} {mX32_known : Nat → Int32} {mX32_chosen : Nat → Option Nat} {mX32_kinds : Nat → Option Nat} {mX32_given : Nat → Option Nat} {mX32_rowOf : Nat → Option Nat} {mX32_answers : Nat → Option Nat} {mX32_foundBy : Nat → Option Nat} {mX32_firstBy : Nat → Option Nat} {mX32_lastBy : Nat → Option Nat} {mX32_answerCount : Nat → Int32} {mX32_asked : Nat → Int32} {mX32_tooMany : Nat → Int32} {mX33_cells : Nat → Option Nat} {mX33_keys : Nat → Option Nat} {mX33_size : Nat → Int32} {mX34_mappings : Nat → Option Nat} {mX34_slots : Nat → Option Nat} {mX34_slotCount : Nat → Int32} {mX81_table : Nat → Option Nat} {mX81_predicate : Nat → Int32} {mX81_templates : Nat → Option Nat} {mX81_columns : Nat → Option Nat} {mX82_predicate : Nat → Int32} {mX82_places : Nat → Option Nat} (n q : Nat) : va_up (cVR ci d kd an ai al ar mX32_tables mX32_mappings mX32_mappingCount mX32_atoms mX32_atomCount mX32_spanOf mX32_spanFrom mX32_spanTo mX32_spans mX32_unions mX32_unionCount mX32_large mX32_known mX32_chosen mX32_kinds mX32_given mX32_rowOf mX32_answers mX32_foundBy mX32_firstBy mX32_lastBy mX32_answerCount mX32_asked mX32_tooMany mX33_cells mX33_keys mX33_size mX34_mappings mX34_slots mX34_slotCount mX81_table mX81_predicate mX81_templates mX81_columns mX82_predicate mX82_places) q (.inl (d 5, n, .inr (.inr (.inr (.inr (fun _ => none)))))) = (cVR ci d (va_up kd q 11) (va_up an q n) ai al (va_up ar q (fun _ => none)) mX32_tables mX32_mappings mX32_mappingCount mX32_atoms mX32_atomCount mX32_spanOf mX32_spanFrom mX32_spanTo mX32_spans mX32_unions mX32_unionCount mX32_large mX32_known mX32_chosen mX32_kinds mX32_given mX32_rowOf mX32_answers mX32_foundBy mX32_firstBy mX32_lastBy mX32_answerCount mX32_asked mX32_tooMany mX33_cells mX33_keys mX33_size mX34_mappings mX34_slots mX34_slotCount mX81_table mX81_predicate mX81_templates mX81_columns mX82_predicate mX82_places) := by
  funext b
  by_cases h : b = q
  · subst h
    rw [va_up_self]
    unfold cVR
    simp only [va_up_self]
  · rw [va_up_ne _ _ h]
    unfold cVR
    simp only [va_up_ne _ _ h]
