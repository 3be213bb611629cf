/-! KnowHouseModel$ProofCheckerModel (printed by tools/zgen.py) -/
set_option maxRecDepth 100000
def RX50 : String := "KnowHouseModel$ProofCheckerModel"
def TX50 : u_T := fun k => match k with
  | 0 => ("KnowHouseModel$ProofCheckerModel", "phrases", "[J", true)
  | 1 => ("KnowHouseModel$ProofCheckerModel", "axioms", "[I", true)
  | 2 => ("KnowHouseModel$ProofCheckerModel", "axiomCount", "I", false)
  | 3 => ("KnowHouseModel$ProofCheckerModel", "triples", "[I", true)
  | 4 => ("KnowHouseModel$ProofCheckerModel", "tripleCount", "I", false)
  | 5 => ("KnowHouseModel$ProofCheckerModel", "rules", "[I", true)
  | 6 => ("KnowHouseModel$ProofCheckerModel", "instances", "[I", true)
  | 7 => ("KnowHouseModel$ProofCheckerModel", "counts", "[I", true)
  | 8 => ("KnowHouseModel$ProofCheckerModel", "premises", "[I", true)
  | 9 => ("KnowHouseModel$ProofCheckerModel", "rows", "I", false)
  | 10 => ("KnowHouseModel$ProofCheckerModel", "stated", "[I", true)
  | 11 => ("KnowHouseModel$ProofCheckerModel", "marks", "[Z", true)
  | 12 => ("KnowHouseModel$ProofCheckerModel", "broken", "I", false)
  | 13 => ("KnowHouseModel$ProofCheckerModel", "text", "[I", true)
  | 14 => ("KnowHouseModel$ProofCheckerModel", "size", "I", false)
  | 15 => ("KnowHouseModel$ProofCheckerModel", "sizes", "[I", true)
  | _ => ("KnowHouseModel$ProofCheckerModel", "places", "[I", true)
def tyX50 : Nat → FieldType := fun k => match k with
  | 0 => .array .long
  | 1 => .array .int
  | 2 => .int
  | 3 => .array .int
  | 4 => .int
  | 5 => .array .int
  | 6 => .array .int
  | 7 => .array .int
  | 8 => .array .int
  | 9 => .int
  | 10 => .array .int
  | 11 => .array .boolean
  | 12 => .int
  | 13 => .array .int
  | 14 => .int
  | 15 => .array .int
  | _ => .array .int
abbrev wsX500 : List Cond := u_ws RX50 TX50 17
theorem nmX50 : ∀ a, a < 17 → ∀ b, b < 17 → a ≠ b → (TX50 a).2.1 ≠ (TX50 b).2.1 := by decide +kernel
theorem tyX50_ok : ∀ k, k < 17 → parseFieldDescriptor (TX50 k).2.2.1 = some (tyX50 k) := by decide +kernel
abbrev cX50_init : ByteArray := prog_85_method_1_code
def yX50_init : MethodName := ⟨RX50, "<init>", "()V"⟩
abbrev cX50_axiom : ByteArray := prog_85_method_3_code
def yX50_axiom : MethodName := ⟨RX50, "axiom", "(III)I"⟩
theorem dX50_axiom_0 : decode cX50_axiom 0 = .ok (.iload_n 1, 1) := by decide +kernel
theorem dX50_axiom_1 : decode cX50_axiom 1 = .ok (.bipush 6, 2) := by decide +kernel
theorem dX50_axiom_3 : decode cX50_axiom 3 = .ok (.if_icmp .eq 15, 3) := by decide +kernel
theorem dX50_axiom_6 : decode cX50_axiom 6 = .ok (.iload_n 1, 1) := by decide +kernel
theorem dX50_axiom_7 : decode cX50_axiom 7 = .ok (.bipush 7, 2) := by decide +kernel
theorem dX50_axiom_9 : decode cX50_axiom 9 = .ok (.if_icmp .eq 9, 3) := by decide +kernel
theorem dX50_axiom_12 : decode cX50_axiom 12 = .ok (.iload_n 1, 1) := by decide +kernel
theorem dX50_axiom_13 : decode cX50_axiom 13 = .ok (.bipush 9, 2) := by decide +kernel
theorem dX50_axiom_15 : decode cX50_axiom 15 = .ok (.if_icmp .ne 7, 3) := by decide +kernel
theorem dX50_axiom_18 : decode cX50_axiom 18 = .ok (.iconst 1, 1) := by decide +kernel
theorem dX50_axiom_19 : decode cX50_axiom 19 = .ok (.goto 4, 3) := by decide +kernel
theorem dX50_axiom_22 : decode cX50_axiom 22 = .ok (.iconst 0, 1) := by decide +kernel
theorem dX50_axiom_23 : decode cX50_axiom 23 = .ok (.istore 4, 2) := by decide +kernel
theorem dX50_axiom_25 : decode cX50_axiom 25 = .ok (.iload_n 1, 1) := by decide +kernel
theorem dX50_axiom_26 : decode cX50_axiom 26 = .ok (.iconst 1, 1) := by decide +kernel
theorem dX50_axiom_27 : decode cX50_axiom 27 = .ok (.if_icmp .lt 28, 3) := by decide +kernel
theorem dX50_axiom_30 : decode cX50_axiom 30 = .ok (.iload_n 1, 1) := by decide +kernel
theorem dX50_axiom_31 : decode cX50_axiom 31 = .ok (.bipush 10, 2) := by decide +kernel
theorem dX50_axiom_33 : decode cX50_axiom 33 = .ok (.if_icmp .gt 22, 3) := by decide +kernel
theorem dX50_axiom_36 : decode cX50_axiom 36 = .ok (.iload_n 2, 1) := by decide +kernel
theorem dX50_axiom_37 : decode cX50_axiom 37 = .ok (.invokestatic 156, 3) := by decide +kernel
theorem dX50_axiom_40 : decode cX50_axiom 40 = .ok (.ifCond .eq 15, 3) := by decide +kernel
theorem dX50_axiom_43 : decode cX50_axiom 43 = .ok (.iload 4, 2) := by decide +kernel
theorem dX50_axiom_45 : decode cX50_axiom 45 = .ok (.ifCond .ne 13, 3) := by decide +kernel
theorem dX50_axiom_48 : decode cX50_axiom 48 = .ok (.iload_n 3, 1) := by decide +kernel
theorem dX50_axiom_49 : decode cX50_axiom 49 = .ok (.invokestatic 156, 3) := by decide +kernel
theorem dX50_axiom_52 : decode cX50_axiom 52 = .ok (.ifCond .ne 6, 3) := by decide +kernel
theorem dX50_axiom_55 : decode cX50_axiom 55 = .ok (.bipush (-2), 2) := by decide +kernel
theorem dX50_axiom_57 : decode cX50_axiom 57 = .ok (.ireturn, 1) := by decide +kernel
theorem dX50_axiom_58 : decode cX50_axiom 58 = .ok (.aload_n 0, 1) := by decide +kernel
theorem dX50_axiom_59 : decode cX50_axiom 59 = .ok (.getfield 160, 3) := by decide +kernel
theorem dX50_axiom_62 : decode cX50_axiom 62 = .ok (.bipush 100, 2) := by decide +kernel
theorem dX50_axiom_64 : decode cX50_axiom 64 = .ok (.if_icmp .ne 6, 3) := by decide +kernel
theorem dX50_axiom_67 : decode cX50_axiom 67 = .ok (.bipush (-4), 2) := by decide +kernel
theorem dX50_axiom_69 : decode cX50_axiom 69 = .ok (.ireturn, 1) := by decide +kernel
theorem dX50_axiom_70 : decode cX50_axiom 70 = .ok (.aload_n 0, 1) := by decide +kernel
theorem dX50_axiom_71 : decode cX50_axiom 71 = .ok (.dup, 1) := by decide +kernel
theorem dX50_axiom_72 : decode cX50_axiom 72 = .ok (.getfield 160, 3) := by decide +kernel
theorem dX50_axiom_75 : decode cX50_axiom 75 = .ok (.iconst 1, 1) := by decide +kernel
theorem dX50_axiom_76 : decode cX50_axiom 76 = .ok (.iadd, 1) := by decide +kernel
theorem dX50_axiom_77 : decode cX50_axiom 77 = .ok (.putfield 160, 3) := by decide +kernel
theorem dX50_axiom_80 : decode cX50_axiom 80 = .ok (.aload_n 0, 1) := by decide +kernel
theorem dX50_axiom_81 : decode cX50_axiom 81 = .ok (.getfield 121, 3) := by decide +kernel
theorem dX50_axiom_84 : decode cX50_axiom 84 = .ok (.iconst 4, 1) := by decide +kernel
theorem dX50_axiom_85 : decode cX50_axiom 85 = .ok (.aload_n 0, 1) := by decide +kernel
theorem dX50_axiom_86 : decode cX50_axiom 86 = .ok (.getfield 160, 3) := by decide +kernel
theorem dX50_axiom_89 : decode cX50_axiom 89 = .ok (.imul, 1) := by decide +kernel
theorem dX50_axiom_90 : decode cX50_axiom 90 = .ok (.iload_n 1, 1) := by decide +kernel
theorem dX50_axiom_91 : decode cX50_axiom 91 = .ok (.iastore, 1) := by decide +kernel
theorem dX50_axiom_92 : decode cX50_axiom 92 = .ok (.aload_n 0, 1) := by decide +kernel
theorem dX50_axiom_93 : decode cX50_axiom 93 = .ok (.getfield 121, 3) := by decide +kernel
theorem dX50_axiom_96 : decode cX50_axiom 96 = .ok (.iconst 4, 1) := by decide +kernel
theorem dX50_axiom_97 : decode cX50_axiom 97 = .ok (.aload_n 0, 1) := by decide +kernel
theorem dX50_axiom_98 : decode cX50_axiom 98 = .ok (.getfield 160, 3) := by decide +kernel
theorem dX50_axiom_101 : decode cX50_axiom 101 = .ok (.imul, 1) := by decide +kernel
theorem dX50_axiom_102 : decode cX50_axiom 102 = .ok (.iconst 1, 1) := by decide +kernel
theorem dX50_axiom_103 : decode cX50_axiom 103 = .ok (.iadd, 1) := by decide +kernel
theorem dX50_axiom_104 : decode cX50_axiom 104 = .ok (.iload_n 2, 1) := by decide +kernel
theorem dX50_axiom_105 : decode cX50_axiom 105 = .ok (.iastore, 1) := by decide +kernel
theorem dX50_axiom_106 : decode cX50_axiom 106 = .ok (.aload_n 0, 1) := by decide +kernel
theorem dX50_axiom_107 : decode cX50_axiom 107 = .ok (.getfield 121, 3) := by decide +kernel
theorem dX50_axiom_110 : decode cX50_axiom 110 = .ok (.iconst 4, 1) := by decide +kernel
theorem dX50_axiom_111 : decode cX50_axiom 111 = .ok (.aload_n 0, 1) := by decide +kernel
theorem dX50_axiom_112 : decode cX50_axiom 112 = .ok (.getfield 160, 3) := by decide +kernel
theorem dX50_axiom_115 : decode cX50_axiom 115 = .ok (.imul, 1) := by decide +kernel
theorem dX50_axiom_116 : decode cX50_axiom 116 = .ok (.iconst 2, 1) := by decide +kernel
theorem dX50_axiom_117 : decode cX50_axiom 117 = .ok (.iadd, 1) := by decide +kernel
theorem dX50_axiom_118 : decode cX50_axiom 118 = .ok (.iload 4, 2) := by decide +kernel
theorem dX50_axiom_120 : decode cX50_axiom 120 = .ok (.ifCond .eq 7, 3) := by decide +kernel
theorem dX50_axiom_123 : decode cX50_axiom 123 = .ok (.iconst 0, 1) := by decide +kernel
theorem dX50_axiom_124 : decode cX50_axiom 124 = .ok (.goto 4, 3) := by decide +kernel
theorem dX50_axiom_127 : decode cX50_axiom 127 = .ok (.iload_n 3, 1) := by decide +kernel
theorem dX50_axiom_128 : decode cX50_axiom 128 = .ok (.iastore, 1) := by decide +kernel
theorem dX50_axiom_129 : decode cX50_axiom 129 = .ok (.aload_n 0, 1) := by decide +kernel
theorem dX50_axiom_130 : decode cX50_axiom 130 = .ok (.getfield 121, 3) := by decide +kernel
theorem dX50_axiom_133 : decode cX50_axiom 133 = .ok (.iconst 4, 1) := by decide +kernel
theorem dX50_axiom_134 : decode cX50_axiom 134 = .ok (.aload_n 0, 1) := by decide +kernel
theorem dX50_axiom_135 : decode cX50_axiom 135 = .ok (.getfield 160, 3) := by decide +kernel
theorem dX50_axiom_138 : decode cX50_axiom 138 = .ok (.imul, 1) := by decide +kernel
theorem dX50_axiom_139 : decode cX50_axiom 139 = .ok (.iconst 3, 1) := by decide +kernel
theorem dX50_axiom_140 : decode cX50_axiom 140 = .ok (.iadd, 1) := by decide +kernel
theorem dX50_axiom_141 : decode cX50_axiom 141 = .ok (.iconst 0, 1) := by decide +kernel
theorem dX50_axiom_142 : decode cX50_axiom 142 = .ok (.iastore, 1) := by decide +kernel
theorem dX50_axiom_143 : decode cX50_axiom 143 = .ok (.aload_n 0, 1) := by decide +kernel
theorem dX50_axiom_144 : decode cX50_axiom 144 = .ok (.getfield 160, 3) := by decide +kernel
theorem dX50_axiom_147 : decode cX50_axiom 147 = .ok (.ireturn, 1) := by decide +kernel
abbrev cX50_isTerm : ByteArray := prog_85_method_2_code
def yX50_isTerm : MethodName := ⟨RX50, "isTerm", "(I)Z"⟩
theorem dX50_isTerm_0 : decode cX50_isTerm 0 = .ok (.iload_n 0, 1) := by decide +kernel
theorem dX50_isTerm_1 : decode cX50_isTerm 1 = .ok (.ifCond .lt 14, 3) := by decide +kernel
theorem dX50_isTerm_4 : decode cX50_isTerm 4 = .ok (.iload_n 0, 1) := by decide +kernel
theorem dX50_isTerm_5 : decode cX50_isTerm 5 = .ok (.sipush 1000, 3) := by decide +kernel
theorem dX50_isTerm_8 : decode cX50_isTerm 8 = .ok (.if_icmp .ge 7, 3) := by decide +kernel
theorem dX50_isTerm_11 : decode cX50_isTerm 11 = .ok (.iconst 1, 1) := by decide +kernel
theorem dX50_isTerm_12 : decode cX50_isTerm 12 = .ok (.goto 4, 3) := by decide +kernel
theorem dX50_isTerm_15 : decode cX50_isTerm 15 = .ok (.iconst 0, 1) := by decide +kernel
theorem dX50_isTerm_16 : decode cX50_isTerm 16 = .ok (.ireturn, 1) := by decide +kernel
abbrev cX50_triple : ByteArray := prog_85_method_4_code
def yX50_triple : MethodName := ⟨RX50, "triple", "(III)I"⟩
theorem dX50_triple_0 : decode cX50_triple 0 = .ok (.iload_n 1, 1) := by decide +kernel
theorem dX50_triple_1 : decode cX50_triple 1 = .ok (.invokestatic 156, 3) := by decide +kernel
theorem dX50_triple_4 : decode cX50_triple 4 = .ok (.ifCond .eq 17, 3) := by decide +kernel
theorem dX50_triple_7 : decode cX50_triple 7 = .ok (.iload_n 2, 1) := by decide +kernel
theorem dX50_triple_8 : decode cX50_triple 8 = .ok (.invokestatic 156, 3) := by decide +kernel
theorem dX50_triple_11 : decode cX50_triple 11 = .ok (.ifCond .eq 10, 3) := by decide +kernel
theorem dX50_triple_14 : decode cX50_triple 14 = .ok (.iload_n 3, 1) := by decide +kernel
theorem dX50_triple_15 : decode cX50_triple 15 = .ok (.invokestatic 156, 3) := by decide +kernel
theorem dX50_triple_18 : decode cX50_triple 18 = .ok (.ifCond .ne 6, 3) := by decide +kernel
theorem dX50_triple_21 : decode cX50_triple 21 = .ok (.bipush (-2), 2) := by decide +kernel
theorem dX50_triple_23 : decode cX50_triple 23 = .ok (.ireturn, 1) := by decide +kernel
theorem dX50_triple_24 : decode cX50_triple 24 = .ok (.iconst 1, 1) := by decide +kernel
theorem dX50_triple_25 : decode cX50_triple 25 = .ok (.istore 4, 2) := by decide +kernel
theorem dX50_triple_27 : decode cX50_triple 27 = .ok (.iload 4, 2) := by decide +kernel
theorem dX50_triple_29 : decode cX50_triple 29 = .ok (.aload_n 0, 1) := by decide +kernel
theorem dX50_triple_30 : decode cX50_triple 30 = .ok (.getfield 164, 3) := by decide +kernel
theorem dX50_triple_33 : decode cX50_triple 33 = .ok (.if_icmp .gt 57, 3) := by decide +kernel
theorem dX50_triple_36 : decode cX50_triple 36 = .ok (.aload_n 0, 1) := by decide +kernel
theorem dX50_triple_37 : decode cX50_triple 37 = .ok (.getfield 125, 3) := by decide +kernel
theorem dX50_triple_40 : decode cX50_triple 40 = .ok (.iconst 4, 1) := by decide +kernel
theorem dX50_triple_41 : decode cX50_triple 41 = .ok (.iload 4, 2) := by decide +kernel
theorem dX50_triple_43 : decode cX50_triple 43 = .ok (.imul, 1) := by decide +kernel
theorem dX50_triple_44 : decode cX50_triple 44 = .ok (.iconst 1, 1) := by decide +kernel
theorem dX50_triple_45 : decode cX50_triple 45 = .ok (.iadd, 1) := by decide +kernel
theorem dX50_triple_46 : decode cX50_triple 46 = .ok (.iaload, 1) := by decide +kernel
theorem dX50_triple_47 : decode cX50_triple 47 = .ok (.iload_n 1, 1) := by decide +kernel
theorem dX50_triple_48 : decode cX50_triple 48 = .ok (.if_icmp .ne 36, 3) := by decide +kernel
theorem dX50_triple_51 : decode cX50_triple 51 = .ok (.aload_n 0, 1) := by decide +kernel
theorem dX50_triple_52 : decode cX50_triple 52 = .ok (.getfield 125, 3) := by decide +kernel
theorem dX50_triple_55 : decode cX50_triple 55 = .ok (.iconst 4, 1) := by decide +kernel
theorem dX50_triple_56 : decode cX50_triple 56 = .ok (.iload 4, 2) := by decide +kernel
theorem dX50_triple_58 : decode cX50_triple 58 = .ok (.imul, 1) := by decide +kernel
theorem dX50_triple_59 : decode cX50_triple 59 = .ok (.iconst 2, 1) := by decide +kernel
theorem dX50_triple_60 : decode cX50_triple 60 = .ok (.iadd, 1) := by decide +kernel
theorem dX50_triple_61 : decode cX50_triple 61 = .ok (.iaload, 1) := by decide +kernel
theorem dX50_triple_62 : decode cX50_triple 62 = .ok (.iload_n 2, 1) := by decide +kernel
theorem dX50_triple_63 : decode cX50_triple 63 = .ok (.if_icmp .ne 21, 3) := by decide +kernel
theorem dX50_triple_66 : decode cX50_triple 66 = .ok (.aload_n 0, 1) := by decide +kernel
theorem dX50_triple_67 : decode cX50_triple 67 = .ok (.getfield 125, 3) := by decide +kernel
theorem dX50_triple_70 : decode cX50_triple 70 = .ok (.iconst 4, 1) := by decide +kernel
theorem dX50_triple_71 : decode cX50_triple 71 = .ok (.iload 4, 2) := by decide +kernel
theorem dX50_triple_73 : decode cX50_triple 73 = .ok (.imul, 1) := by decide +kernel
theorem dX50_triple_74 : decode cX50_triple 74 = .ok (.iconst 3, 1) := by decide +kernel
theorem dX50_triple_75 : decode cX50_triple 75 = .ok (.iadd, 1) := by decide +kernel
theorem dX50_triple_76 : decode cX50_triple 76 = .ok (.iaload, 1) := by decide +kernel
theorem dX50_triple_77 : decode cX50_triple 77 = .ok (.iload_n 3, 1) := by decide +kernel
theorem dX50_triple_78 : decode cX50_triple 78 = .ok (.if_icmp .ne 6, 3) := by decide +kernel
theorem dX50_triple_81 : decode cX50_triple 81 = .ok (.iload 4, 2) := by decide +kernel
theorem dX50_triple_83 : decode cX50_triple 83 = .ok (.ireturn, 1) := by decide +kernel
theorem dX50_triple_84 : decode cX50_triple 84 = .ok (.iinc 4 1, 3) := by decide +kernel
theorem dX50_triple_87 : decode cX50_triple 87 = .ok (.goto (-60), 3) := by decide +kernel
theorem dX50_triple_90 : decode cX50_triple 90 = .ok (.aload_n 0, 1) := by decide +kernel
theorem dX50_triple_91 : decode cX50_triple 91 = .ok (.getfield 164, 3) := by decide +kernel
theorem dX50_triple_94 : decode cX50_triple 94 = .ok (.bipush 100, 2) := by decide +kernel
theorem dX50_triple_96 : decode cX50_triple 96 = .ok (.if_icmp .ne 6, 3) := by decide +kernel
theorem dX50_triple_99 : decode cX50_triple 99 = .ok (.bipush (-4), 2) := by decide +kernel
theorem dX50_triple_101 : decode cX50_triple 101 = .ok (.ireturn, 1) := by decide +kernel
theorem dX50_triple_102 : decode cX50_triple 102 = .ok (.aload_n 0, 1) := by decide +kernel
theorem dX50_triple_103 : decode cX50_triple 103 = .ok (.dup, 1) := by decide +kernel
theorem dX50_triple_104 : decode cX50_triple 104 = .ok (.getfield 164, 3) := by decide +kernel
theorem dX50_triple_107 : decode cX50_triple 107 = .ok (.iconst 1, 1) := by decide +kernel
theorem dX50_triple_108 : decode cX50_triple 108 = .ok (.iadd, 1) := by decide +kernel
theorem dX50_triple_109 : decode cX50_triple 109 = .ok (.putfield 164, 3) := by decide +kernel
theorem dX50_triple_112 : decode cX50_triple 112 = .ok (.aload_n 0, 1) := by decide +kernel
theorem dX50_triple_113 : decode cX50_triple 113 = .ok (.getfield 125, 3) := by decide +kernel
theorem dX50_triple_116 : decode cX50_triple 116 = .ok (.iconst 4, 1) := by decide +kernel
theorem dX50_triple_117 : decode cX50_triple 117 = .ok (.aload_n 0, 1) := by decide +kernel
theorem dX50_triple_118 : decode cX50_triple 118 = .ok (.getfield 164, 3) := by decide +kernel
theorem dX50_triple_121 : decode cX50_triple 121 = .ok (.imul, 1) := by decide +kernel
theorem dX50_triple_122 : decode cX50_triple 122 = .ok (.bipush 11, 2) := by decide +kernel
theorem dX50_triple_124 : decode cX50_triple 124 = .ok (.iastore, 1) := by decide +kernel
theorem dX50_triple_125 : decode cX50_triple 125 = .ok (.aload_n 0, 1) := by decide +kernel
theorem dX50_triple_126 : decode cX50_triple 126 = .ok (.getfield 125, 3) := by decide +kernel
theorem dX50_triple_129 : decode cX50_triple 129 = .ok (.iconst 4, 1) := by decide +kernel
theorem dX50_triple_130 : decode cX50_triple 130 = .ok (.aload_n 0, 1) := by decide +kernel
theorem dX50_triple_131 : decode cX50_triple 131 = .ok (.getfield 164, 3) := by decide +kernel
theorem dX50_triple_134 : decode cX50_triple 134 = .ok (.imul, 1) := by decide +kernel
theorem dX50_triple_135 : decode cX50_triple 135 = .ok (.iconst 1, 1) := by decide +kernel
theorem dX50_triple_136 : decode cX50_triple 136 = .ok (.iadd, 1) := by decide +kernel
theorem dX50_triple_137 : decode cX50_triple 137 = .ok (.iload_n 1, 1) := by decide +kernel
theorem dX50_triple_138 : decode cX50_triple 138 = .ok (.iastore, 1) := by decide +kernel
theorem dX50_triple_139 : decode cX50_triple 139 = .ok (.aload_n 0, 1) := by decide +kernel
theorem dX50_triple_140 : decode cX50_triple 140 = .ok (.getfield 125, 3) := by decide +kernel
theorem dX50_triple_143 : decode cX50_triple 143 = .ok (.iconst 4, 1) := by decide +kernel
theorem dX50_triple_144 : decode cX50_triple 144 = .ok (.aload_n 0, 1) := by decide +kernel
theorem dX50_triple_145 : decode cX50_triple 145 = .ok (.getfield 164, 3) := by decide +kernel
theorem dX50_triple_148 : decode cX50_triple 148 = .ok (.imul, 1) := by decide +kernel
theorem dX50_triple_149 : decode cX50_triple 149 = .ok (.iconst 2, 1) := by decide +kernel
theorem dX50_triple_150 : decode cX50_triple 150 = .ok (.iadd, 1) := by decide +kernel
theorem dX50_triple_151 : decode cX50_triple 151 = .ok (.iload_n 2, 1) := by decide +kernel
theorem dX50_triple_152 : decode cX50_triple 152 = .ok (.iastore, 1) := by decide +kernel
theorem dX50_triple_153 : decode cX50_triple 153 = .ok (.aload_n 0, 1) := by decide +kernel
theorem dX50_triple_154 : decode cX50_triple 154 = .ok (.getfield 125, 3) := by decide +kernel
theorem dX50_triple_157 : decode cX50_triple 157 = .ok (.iconst 4, 1) := by decide +kernel
theorem dX50_triple_158 : decode cX50_triple 158 = .ok (.aload_n 0, 1) := by decide +kernel
theorem dX50_triple_159 : decode cX50_triple 159 = .ok (.getfield 164, 3) := by decide +kernel
theorem dX50_triple_162 : decode cX50_triple 162 = .ok (.imul, 1) := by decide +kernel
theorem dX50_triple_163 : decode cX50_triple 163 = .ok (.iconst 3, 1) := by decide +kernel
theorem dX50_triple_164 : decode cX50_triple 164 = .ok (.iadd, 1) := by decide +kernel
theorem dX50_triple_165 : decode cX50_triple 165 = .ok (.iload_n 3, 1) := by decide +kernel
theorem dX50_triple_166 : decode cX50_triple 166 = .ok (.iastore, 1) := by decide +kernel
theorem dX50_triple_167 : decode cX50_triple 167 = .ok (.aload_n 0, 1) := by decide +kernel
theorem dX50_triple_168 : decode cX50_triple 168 = .ok (.getfield 164, 3) := by decide +kernel
theorem dX50_triple_171 : decode cX50_triple 171 = .ok (.ireturn, 1) := by decide +kernel
abbrev cX50_row : ByteArray := prog_85_method_8_code
def yX50_row : MethodName := ⟨RX50, "row", "(III)I"⟩
theorem dX50_row_0 : decode cX50_row 0 = .ok (.iload_n 1, 1) := by decide +kernel
theorem dX50_row_1 : decode cX50_row 1 = .ok (.ifCond .lt 47, 3) := by decide +kernel
theorem dX50_row_4 : decode cX50_row 4 = .ok (.iload_n 1, 1) := by decide +kernel
theorem dX50_row_5 : decode cX50_row 5 = .ok (.bipush 17, 2) := by decide +kernel
theorem dX50_row_7 : decode cX50_row 7 = .ok (.if_icmp .gt 41, 3) := by decide +kernel
theorem dX50_row_10 : decode cX50_row 10 = .ok (.aload_n 0, 1) := by decide +kernel
theorem dX50_row_11 : decode cX50_row 11 = .ok (.iload_n 1, 1) := by decide +kernel
theorem dX50_row_12 : decode cX50_row 12 = .ok (.iload_n 2, 1) := by decide +kernel
theorem dX50_row_13 : decode cX50_row 13 = .ok (.invokevirtual 170, 3) := by decide +kernel
theorem dX50_row_16 : decode cX50_row 16 = .ok (.ifCond .eq 32, 3) := by decide +kernel
theorem dX50_row_19 : decode cX50_row 19 = .ok (.iload_n 3, 1) := by decide +kernel
theorem dX50_row_20 : decode cX50_row 20 = .ok (.ifCond .eq 18, 3) := by decide +kernel
theorem dX50_row_23 : decode cX50_row 23 = .ok (.aload_n 0, 1) := by decide +kernel
theorem dX50_row_24 : decode cX50_row 24 = .ok (.iload_n 3, 1) := by decide +kernel
theorem dX50_row_25 : decode cX50_row 25 = .ok (.invokevirtual 174, 3) := by decide +kernel
theorem dX50_row_28 : decode cX50_row 28 = .ok (.ifCond .eq 20, 3) := by decide +kernel
theorem dX50_row_31 : decode cX50_row 31 = .ok (.iload_n 1, 1) := by decide +kernel
theorem dX50_row_32 : decode cX50_row 32 = .ok (.invokestatic 177, 3) := by decide +kernel
theorem dX50_row_35 : decode cX50_row 35 = .ok (.ifCond .eq 13, 3) := by decide +kernel
theorem dX50_row_38 : decode cX50_row 38 = .ok (.aload_n 0, 1) := by decide +kernel
theorem dX50_row_39 : decode cX50_row 39 = .ok (.getfield 167, 3) := by decide +kernel
theorem dX50_row_42 : decode cX50_row 42 = .ok (.sipush 300, 3) := by decide +kernel
theorem dX50_row_45 : decode cX50_row 45 = .ok (.if_icmp .ne 5, 3) := by decide +kernel
theorem dX50_row_48 : decode cX50_row 48 = .ok (.iconst 0, 1) := by decide +kernel
theorem dX50_row_49 : decode cX50_row 49 = .ok (.ireturn, 1) := by decide +kernel
theorem dX50_row_50 : decode cX50_row 50 = .ok (.aload_n 0, 1) := by decide +kernel
theorem dX50_row_51 : decode cX50_row 51 = .ok (.dup, 1) := by decide +kernel
theorem dX50_row_52 : decode cX50_row 52 = .ok (.getfield 167, 3) := by decide +kernel
theorem dX50_row_55 : decode cX50_row 55 = .ok (.iconst 1, 1) := by decide +kernel
theorem dX50_row_56 : decode cX50_row 56 = .ok (.iadd, 1) := by decide +kernel
theorem dX50_row_57 : decode cX50_row 57 = .ok (.putfield 167, 3) := by decide +kernel
theorem dX50_row_60 : decode cX50_row 60 = .ok (.aload_n 0, 1) := by decide +kernel
theorem dX50_row_61 : decode cX50_row 61 = .ok (.getfield 128, 3) := by decide +kernel
theorem dX50_row_64 : decode cX50_row 64 = .ok (.aload_n 0, 1) := by decide +kernel
theorem dX50_row_65 : decode cX50_row 65 = .ok (.getfield 167, 3) := by decide +kernel
theorem dX50_row_68 : decode cX50_row 68 = .ok (.iload_n 1, 1) := by decide +kernel
theorem dX50_row_69 : decode cX50_row 69 = .ok (.iastore, 1) := by decide +kernel
theorem dX50_row_70 : decode cX50_row 70 = .ok (.aload_n 0, 1) := by decide +kernel
theorem dX50_row_71 : decode cX50_row 71 = .ok (.getfield 131, 3) := by decide +kernel
theorem dX50_row_74 : decode cX50_row 74 = .ok (.aload_n 0, 1) := by decide +kernel
theorem dX50_row_75 : decode cX50_row 75 = .ok (.getfield 167, 3) := by decide +kernel
theorem dX50_row_78 : decode cX50_row 78 = .ok (.iload_n 2, 1) := by decide +kernel
theorem dX50_row_79 : decode cX50_row 79 = .ok (.iastore, 1) := by decide +kernel
theorem dX50_row_80 : decode cX50_row 80 = .ok (.aload_n 0, 1) := by decide +kernel
theorem dX50_row_81 : decode cX50_row 81 = .ok (.getfield 134, 3) := by decide +kernel
theorem dX50_row_84 : decode cX50_row 84 = .ok (.aload_n 0, 1) := by decide +kernel
theorem dX50_row_85 : decode cX50_row 85 = .ok (.getfield 167, 3) := by decide +kernel
theorem dX50_row_88 : decode cX50_row 88 = .ok (.iconst 0, 1) := by decide +kernel
theorem dX50_row_89 : decode cX50_row 89 = .ok (.iastore, 1) := by decide +kernel
theorem dX50_row_90 : decode cX50_row 90 = .ok (.iload_n 3, 1) := by decide +kernel
theorem dX50_row_91 : decode cX50_row 91 = .ok (.ifCond .eq 12, 3) := by decide +kernel
theorem dX50_row_94 : decode cX50_row 94 = .ok (.aload_n 0, 1) := by decide +kernel
theorem dX50_row_95 : decode cX50_row 95 = .ok (.aload_n 0, 1) := by decide +kernel
theorem dX50_row_96 : decode cX50_row 96 = .ok (.getfield 167, 3) := by decide +kernel
theorem dX50_row_99 : decode cX50_row 99 = .ok (.iload_n 3, 1) := by decide +kernel
theorem dX50_row_100 : decode cX50_row 100 = .ok (.invokevirtual 181, 3) := by decide +kernel
theorem dX50_row_103 : decode cX50_row 103 = .ok (.aload_n 0, 1) := by decide +kernel
theorem dX50_row_104 : decode cX50_row 104 = .ok (.getfield 167, 3) := by decide +kernel
theorem dX50_row_107 : decode cX50_row 107 = .ok (.ireturn, 1) := by decide +kernel
abbrev cX50_isInstance : ByteArray := prog_85_method_7_code
def yX50_isInstance : MethodName := ⟨RX50, "isInstance", "(II)Z"⟩
theorem dX50_isInstance_0 : decode cX50_isInstance 0 = .ok (.iload_n 1, 1) := by decide +kernel
theorem dX50_isInstance_1 : decode cX50_isInstance 1 = .ok (.ifCond .ne 21, 3) := by decide +kernel
theorem dX50_isInstance_4 : decode cX50_isInstance 4 = .ok (.iload_n 2, 1) := by decide +kernel
theorem dX50_isInstance_5 : decode cX50_isInstance 5 = .ok (.ifCond .le 15, 3) := by decide +kernel
theorem dX50_isInstance_8 : decode cX50_isInstance 8 = .ok (.iload_n 2, 1) := by decide +kernel
theorem dX50_isInstance_9 : decode cX50_isInstance 9 = .ok (.aload_n 0, 1) := by decide +kernel
theorem dX50_isInstance_10 : decode cX50_isInstance 10 = .ok (.getfield 160, 3) := by decide +kernel
theorem dX50_isInstance_13 : decode cX50_isInstance 13 = .ok (.if_icmp .gt 7, 3) := by decide +kernel
theorem dX50_isInstance_16 : decode cX50_isInstance 16 = .ok (.iconst 1, 1) := by decide +kernel
theorem dX50_isInstance_17 : decode cX50_isInstance 17 = .ok (.goto 4, 3) := by decide +kernel
theorem dX50_isInstance_20 : decode cX50_isInstance 20 = .ok (.iconst 0, 1) := by decide +kernel
theorem dX50_isInstance_21 : decode cX50_isInstance 21 = .ok (.ireturn, 1) := by decide +kernel
theorem dX50_isInstance_22 : decode cX50_isInstance 22 = .ok (.iload_n 1, 1) := by decide +kernel
theorem dX50_isInstance_23 : decode cX50_isInstance 23 = .ok (.iconst 1, 1) := by decide +kernel
theorem dX50_isInstance_24 : decode cX50_isInstance 24 = .ok (.if_icmp .eq 9, 3) := by decide +kernel
theorem dX50_isInstance_27 : decode cX50_isInstance 27 = .ok (.iload_n 1, 1) := by decide +kernel
theorem dX50_isInstance_28 : decode cX50_isInstance 28 = .ok (.bipush 17, 2) := by decide +kernel
theorem dX50_isInstance_30 : decode cX50_isInstance 30 = .ok (.if_icmp .ne 21, 3) := by decide +kernel
theorem dX50_isInstance_33 : decode cX50_isInstance 33 = .ok (.iload_n 2, 1) := by decide +kernel
theorem dX50_isInstance_34 : decode cX50_isInstance 34 = .ok (.ifCond .le 15, 3) := by decide +kernel
theorem dX50_isInstance_37 : decode cX50_isInstance 37 = .ok (.iload_n 2, 1) := by decide +kernel
theorem dX50_isInstance_38 : decode cX50_isInstance 38 = .ok (.aload_n 0, 1) := by decide +kernel
theorem dX50_isInstance_39 : decode cX50_isInstance 39 = .ok (.getfield 164, 3) := by decide +kernel
theorem dX50_isInstance_42 : decode cX50_isInstance 42 = .ok (.if_icmp .gt 7, 3) := by decide +kernel
theorem dX50_isInstance_45 : decode cX50_isInstance 45 = .ok (.iconst 1, 1) := by decide +kernel
theorem dX50_isInstance_46 : decode cX50_isInstance 46 = .ok (.goto 4, 3) := by decide +kernel
theorem dX50_isInstance_49 : decode cX50_isInstance 49 = .ok (.iconst 0, 1) := by decide +kernel
theorem dX50_isInstance_50 : decode cX50_isInstance 50 = .ok (.ireturn, 1) := by decide +kernel
theorem dX50_isInstance_51 : decode cX50_isInstance 51 = .ok (.iload_n 1, 1) := by decide +kernel
theorem dX50_isInstance_52 : decode cX50_isInstance 52 = .ok (.iconst 2, 1) := by decide +kernel
theorem dX50_isInstance_53 : decode cX50_isInstance 53 = .ok (.if_icmp .ne 10, 3) := by decide +kernel
theorem dX50_isInstance_56 : decode cX50_isInstance 56 = .ok (.iload_n 2, 1) := by decide +kernel
theorem dX50_isInstance_57 : decode cX50_isInstance 57 = .ok (.invokestatic 156, 3) := by decide +kernel
theorem dX50_isInstance_60 : decode cX50_isInstance 60 = .ok (.ifCond .eq 7, 3) := by decide +kernel
theorem dX50_isInstance_63 : decode cX50_isInstance 63 = .ok (.iconst 1, 1) := by decide +kernel
theorem dX50_isInstance_64 : decode cX50_isInstance 64 = .ok (.goto 4, 3) := by decide +kernel
theorem dX50_isInstance_67 : decode cX50_isInstance 67 = .ok (.iconst 0, 1) := by decide +kernel
theorem dX50_isInstance_68 : decode cX50_isInstance 68 = .ok (.ireturn, 1) := by decide +kernel
abbrev cX50_isRow : ByteArray := prog_85_method_6_code
def yX50_isRow : MethodName := ⟨RX50, "isRow", "(I)Z"⟩
theorem dX50_isRow_0 : decode cX50_isRow 0 = .ok (.iload_n 1, 1) := by decide +kernel
theorem dX50_isRow_1 : decode cX50_isRow 1 = .ok (.ifCond .le 15, 3) := by decide +kernel
theorem dX50_isRow_4 : decode cX50_isRow 4 = .ok (.iload_n 1, 1) := by decide +kernel
theorem dX50_isRow_5 : decode cX50_isRow 5 = .ok (.aload_n 0, 1) := by decide +kernel
theorem dX50_isRow_6 : decode cX50_isRow 6 = .ok (.getfield 167, 3) := by decide +kernel
theorem dX50_isRow_9 : decode cX50_isRow 9 = .ok (.if_icmp .gt 7, 3) := by decide +kernel
theorem dX50_isRow_12 : decode cX50_isRow 12 = .ok (.iconst 1, 1) := by decide +kernel
theorem dX50_isRow_13 : decode cX50_isRow 13 = .ok (.goto 4, 3) := by decide +kernel
theorem dX50_isRow_16 : decode cX50_isRow 16 = .ok (.iconst 0, 1) := by decide +kernel
theorem dX50_isRow_17 : decode cX50_isRow 17 = .ok (.ireturn, 1) := by decide +kernel
abbrev cX50_takes : ByteArray := prog_85_method_5_code
def yX50_takes : MethodName := ⟨RX50, "takes", "(I)I"⟩
theorem dX50_takes_0 : decode cX50_takes 0 = .ok (.iload_n 0, 1) := by decide +kernel
theorem dX50_takes_1 : decode cX50_takes 1 = .ok (.iconst 3, 1) := by decide +kernel
theorem dX50_takes_2 : decode cX50_takes 2 = .ok (.if_icmp .ge 5, 3) := by decide +kernel
theorem dX50_takes_5 : decode cX50_takes 5 = .ok (.iconst 0, 1) := by decide +kernel
theorem dX50_takes_6 : decode cX50_takes 6 = .ok (.ireturn, 1) := by decide +kernel
theorem dX50_takes_7 : decode cX50_takes 7 = .ok (.iload_n 0, 1) := by decide +kernel
theorem dX50_takes_8 : decode cX50_takes 8 = .ok (.bipush 12, 2) := by decide +kernel
theorem dX50_takes_10 : decode cX50_takes 10 = .ok (.if_icmp .eq 9, 3) := by decide +kernel
theorem dX50_takes_13 : decode cX50_takes 13 = .ok (.iload_n 0, 1) := by decide +kernel
theorem dX50_takes_14 : decode cX50_takes 14 = .ok (.bipush 17, 2) := by decide +kernel
theorem dX50_takes_16 : decode cX50_takes 16 = .ok (.if_icmp .ne 5, 3) := by decide +kernel
theorem dX50_takes_19 : decode cX50_takes 19 = .ok (.iconst 1, 1) := by decide +kernel
theorem dX50_takes_20 : decode cX50_takes 20 = .ok (.ireturn, 1) := by decide +kernel
theorem dX50_takes_21 : decode cX50_takes 21 = .ok (.iload_n 0, 1) := by decide +kernel
theorem dX50_takes_22 : decode cX50_takes 22 = .ok (.bipush 10, 2) := by decide +kernel
theorem dX50_takes_24 : decode cX50_takes 24 = .ok (.if_icmp .eq 15, 3) := by decide +kernel
theorem dX50_takes_27 : decode cX50_takes 27 = .ok (.iload_n 0, 1) := by decide +kernel
theorem dX50_takes_28 : decode cX50_takes 28 = .ok (.bipush 14, 2) := by decide +kernel
theorem dX50_takes_30 : decode cX50_takes 30 = .ok (.if_icmp .eq 9, 3) := by decide +kernel
theorem dX50_takes_33 : decode cX50_takes 33 = .ok (.iload_n 0, 1) := by decide +kernel
theorem dX50_takes_34 : decode cX50_takes 34 = .ok (.bipush 15, 2) := by decide +kernel
theorem dX50_takes_36 : decode cX50_takes 36 = .ok (.if_icmp .ne 7, 3) := by decide +kernel
theorem dX50_takes_39 : decode cX50_takes 39 = .ok (.iconst 3, 1) := by decide +kernel
theorem dX50_takes_40 : decode cX50_takes 40 = .ok (.goto 4, 3) := by decide +kernel
theorem dX50_takes_43 : decode cX50_takes 43 = .ok (.iconst 2, 1) := by decide +kernel
theorem dX50_takes_44 : decode cX50_takes 44 = .ok (.ireturn, 1) := by decide +kernel
abbrev cX50_lay : ByteArray := prog_85_method_9_code
def yX50_lay : MethodName := ⟨RX50, "lay", "(II)V"⟩
theorem dX50_lay_0 : decode cX50_lay 0 = .ok (.aload_n 0, 1) := by decide +kernel
theorem dX50_lay_1 : decode cX50_lay 1 = .ok (.getfield 137, 3) := by decide +kernel
theorem dX50_lay_4 : decode cX50_lay 4 = .ok (.iconst 3, 1) := by decide +kernel
theorem dX50_lay_5 : decode cX50_lay 5 = .ok (.iload_n 1, 1) := by decide +kernel
theorem dX50_lay_6 : decode cX50_lay 6 = .ok (.imul, 1) := by decide +kernel
theorem dX50_lay_7 : decode cX50_lay 7 = .ok (.aload_n 0, 1) := by decide +kernel
theorem dX50_lay_8 : decode cX50_lay 8 = .ok (.getfield 134, 3) := by decide +kernel
theorem dX50_lay_11 : decode cX50_lay 11 = .ok (.iload_n 1, 1) := by decide +kernel
theorem dX50_lay_12 : decode cX50_lay 12 = .ok (.iaload, 1) := by decide +kernel
theorem dX50_lay_13 : decode cX50_lay 13 = .ok (.iadd, 1) := by decide +kernel
theorem dX50_lay_14 : decode cX50_lay 14 = .ok (.iload_n 2, 1) := by decide +kernel
theorem dX50_lay_15 : decode cX50_lay 15 = .ok (.iastore, 1) := by decide +kernel
theorem dX50_lay_16 : decode cX50_lay 16 = .ok (.aload_n 0, 1) := by decide +kernel
theorem dX50_lay_17 : decode cX50_lay 17 = .ok (.getfield 134, 3) := by decide +kernel
theorem dX50_lay_20 : decode cX50_lay 20 = .ok (.iload_n 1, 1) := by decide +kernel
theorem dX50_lay_21 : decode cX50_lay 21 = .ok (.dup2, 1) := by decide +kernel
theorem dX50_lay_22 : decode cX50_lay 22 = .ok (.iaload, 1) := by decide +kernel
theorem dX50_lay_23 : decode cX50_lay 23 = .ok (.iconst 1, 1) := by decide +kernel
theorem dX50_lay_24 : decode cX50_lay 24 = .ok (.iadd, 1) := by decide +kernel
theorem dX50_lay_25 : decode cX50_lay 25 = .ok (.iastore, 1) := by decide +kernel
theorem dX50_lay_26 : decode cX50_lay 26 = .ok (.return_, 1) := by decide +kernel
abbrev cX50_premise : ByteArray := prog_85_method_10_code
def yX50_premise : MethodName := ⟨RX50, "premise", "(II)I"⟩
theorem dX50_premise_0 : decode cX50_premise 0 = .ok (.aload_n 0, 1) := by decide +kernel
theorem dX50_premise_1 : decode cX50_premise 1 = .ok (.iload_n 1, 1) := by decide +kernel
theorem dX50_premise_2 : decode cX50_premise 2 = .ok (.invokevirtual 174, 3) := by decide +kernel
theorem dX50_premise_5 : decode cX50_premise 5 = .ok (.ifCond .eq 11, 3) := by decide +kernel
theorem dX50_premise_8 : decode cX50_premise 8 = .ok (.aload_n 0, 1) := by decide +kernel
theorem dX50_premise_9 : decode cX50_premise 9 = .ok (.iload_n 2, 1) := by decide +kernel
theorem dX50_premise_10 : decode cX50_premise 10 = .ok (.invokevirtual 174, 3) := by decide +kernel
theorem dX50_premise_13 : decode cX50_premise 13 = .ok (.ifCond .ne 5, 3) := by decide +kernel
theorem dX50_premise_16 : decode cX50_premise 16 = .ok (.iconst (-1), 1) := by decide +kernel
theorem dX50_premise_17 : decode cX50_premise 17 = .ok (.ireturn, 1) := by decide +kernel
theorem dX50_premise_18 : decode cX50_premise 18 = .ok (.iload_n 2, 1) := by decide +kernel
theorem dX50_premise_19 : decode cX50_premise 19 = .ok (.iload_n 1, 1) := by decide +kernel
theorem dX50_premise_20 : decode cX50_premise 20 = .ok (.if_icmp .ge 21, 3) := by decide +kernel
theorem dX50_premise_23 : decode cX50_premise 23 = .ok (.aload_n 0, 1) := by decide +kernel
theorem dX50_premise_24 : decode cX50_premise 24 = .ok (.getfield 134, 3) := by decide +kernel
theorem dX50_premise_27 : decode cX50_premise 27 = .ok (.iload_n 1, 1) := by decide +kernel
theorem dX50_premise_28 : decode cX50_premise 28 = .ok (.iaload, 1) := by decide +kernel
theorem dX50_premise_29 : decode cX50_premise 29 = .ok (.aload_n 0, 1) := by decide +kernel
theorem dX50_premise_30 : decode cX50_premise 30 = .ok (.getfield 128, 3) := by decide +kernel
theorem dX50_premise_33 : decode cX50_premise 33 = .ok (.iload_n 1, 1) := by decide +kernel
theorem dX50_premise_34 : decode cX50_premise 34 = .ok (.iaload, 1) := by decide +kernel
theorem dX50_premise_35 : decode cX50_premise 35 = .ok (.invokestatic 177, 3) := by decide +kernel
theorem dX50_premise_38 : decode cX50_premise 38 = .ok (.if_icmp .lt 6, 3) := by decide +kernel
theorem dX50_premise_41 : decode cX50_premise 41 = .ok (.bipush (-3), 2) := by decide +kernel
theorem dX50_premise_43 : decode cX50_premise 43 = .ok (.ireturn, 1) := by decide +kernel
theorem dX50_premise_44 : decode cX50_premise 44 = .ok (.aload_n 0, 1) := by decide +kernel
theorem dX50_premise_45 : decode cX50_premise 45 = .ok (.iload_n 1, 1) := by decide +kernel
theorem dX50_premise_46 : decode cX50_premise 46 = .ok (.iload_n 2, 1) := by decide +kernel
theorem dX50_premise_47 : decode cX50_premise 47 = .ok (.invokevirtual 181, 3) := by decide +kernel
theorem dX50_premise_50 : decode cX50_premise 50 = .ok (.aload_n 0, 1) := by decide +kernel
theorem dX50_premise_51 : decode cX50_premise 51 = .ok (.getfield 134, 3) := by decide +kernel
theorem dX50_premise_54 : decode cX50_premise 54 = .ok (.iload_n 1, 1) := by decide +kernel
theorem dX50_premise_55 : decode cX50_premise 55 = .ok (.iaload, 1) := by decide +kernel
theorem dX50_premise_56 : decode cX50_premise 56 = .ok (.ireturn, 1) := by decide +kernel
abbrev cX50_check : ByteArray := prog_85_method_21_code
def yX50_check : MethodName := ⟨RX50, "check", "(I)I"⟩
theorem dX50_check_0 : decode cX50_check 0 = .ok (.aload_n 0, 1) := by decide +kernel
theorem dX50_check_1 : decode cX50_check 1 = .ok (.iload_n 1, 1) := by decide +kernel
theorem dX50_check_2 : decode cX50_check 2 = .ok (.invokevirtual 174, 3) := by decide +kernel
theorem dX50_check_5 : decode cX50_check 5 = .ok (.ifCond .ne 5, 3) := by decide +kernel
theorem dX50_check_8 : decode cX50_check 8 = .ok (.iconst (-1), 1) := by decide +kernel
theorem dX50_check_9 : decode cX50_check 9 = .ok (.ireturn, 1) := by decide +kernel
theorem dX50_check_10 : decode cX50_check 10 = .ok (.aload_n 0, 1) := by decide +kernel
theorem dX50_check_11 : decode cX50_check 11 = .ok (.iload_n 1, 1) := by decide +kernel
theorem dX50_check_12 : decode cX50_check 12 = .ok (.invokevirtual 212, 3) := by decide +kernel
theorem dX50_check_15 : decode cX50_check 15 = .ok (.pop, 1) := by decide +kernel
theorem dX50_check_16 : decode cX50_check 16 = .ok (.aload_n 0, 1) := by decide +kernel
theorem dX50_check_17 : decode cX50_check 17 = .ok (.iload_n 1, 1) := by decide +kernel
theorem dX50_check_18 : decode cX50_check 18 = .ok (.invokevirtual 215, 3) := by decide +kernel
theorem dX50_check_21 : decode cX50_check 21 = .ok (.aload_n 0, 1) := by decide +kernel
theorem dX50_check_22 : decode cX50_check 22 = .ok (.iconst 0, 1) := by decide +kernel
theorem dX50_check_23 : decode cX50_check 23 = .ok (.putfield 218, 3) := by decide +kernel
theorem dX50_check_26 : decode cX50_check 26 = .ok (.iload_n 1, 1) := by decide +kernel
theorem dX50_check_27 : decode cX50_check 27 = .ok (.istore_n 2, 1) := by decide +kernel
theorem dX50_check_28 : decode cX50_check 28 = .ok (.iload_n 2, 1) := by decide +kernel
theorem dX50_check_29 : decode cX50_check 29 = .ok (.ifCond .le 82, 3) := by decide +kernel
theorem dX50_check_32 : decode cX50_check 32 = .ok (.aload_n 0, 1) := by decide +kernel
theorem dX50_check_33 : decode cX50_check 33 = .ok (.getfield 143, 3) := by decide +kernel
theorem dX50_check_36 : decode cX50_check 36 = .ok (.iload_n 2, 1) := by decide +kernel
theorem dX50_check_37 : decode cX50_check 37 = .ok (.baload, 1) := by decide +kernel
theorem dX50_check_38 : decode cX50_check 38 = .ok (.ifCond .eq 15, 3) := by decide +kernel
theorem dX50_check_41 : decode cX50_check 41 = .ok (.aload_n 0, 1) := by decide +kernel
theorem dX50_check_42 : decode cX50_check 42 = .ok (.iload_n 2, 1) := by decide +kernel
theorem dX50_check_43 : decode cX50_check 43 = .ok (.invokevirtual 221, 3) := by decide +kernel
theorem dX50_check_46 : decode cX50_check 46 = .ok (.ifCond .ne 7, 3) := by decide +kernel
theorem dX50_check_49 : decode cX50_check 49 = .ok (.iconst 1, 1) := by decide +kernel
theorem dX50_check_50 : decode cX50_check 50 = .ok (.goto 4, 3) := by decide +kernel
theorem dX50_check_53 : decode cX50_check 53 = .ok (.iconst 0, 1) := by decide +kernel
theorem dX50_check_54 : decode cX50_check 54 = .ok (.istore_n 3, 1) := by decide +kernel
theorem dX50_check_55 : decode cX50_check 55 = .ok (.iconst 0, 1) := by decide +kernel
theorem dX50_check_56 : decode cX50_check 56 = .ok (.istore 4, 2) := by decide +kernel
theorem dX50_check_58 : decode cX50_check 58 = .ok (.iload 4, 2) := by decide +kernel
theorem dX50_check_60 : decode cX50_check 60 = .ok (.aload_n 0, 1) := by decide +kernel
theorem dX50_check_61 : decode cX50_check 61 = .ok (.getfield 134, 3) := by decide +kernel
theorem dX50_check_64 : decode cX50_check 64 = .ok (.iload_n 2, 1) := by decide +kernel
theorem dX50_check_65 : decode cX50_check 65 = .ok (.iaload, 1) := by decide +kernel
theorem dX50_check_66 : decode cX50_check 66 = .ok (.if_icmp .ge 30, 3) := by decide +kernel
theorem dX50_check_69 : decode cX50_check 69 = .ok (.iload_n 3, 1) := by decide +kernel
theorem dX50_check_70 : decode cX50_check 70 = .ok (.ifCond .eq 18, 3) := by decide +kernel
theorem dX50_check_73 : decode cX50_check 73 = .ok (.aload_n 0, 1) := by decide +kernel
theorem dX50_check_74 : decode cX50_check 74 = .ok (.iload_n 2, 1) := by decide +kernel
theorem dX50_check_75 : decode cX50_check 75 = .ok (.iload 4, 2) := by decide +kernel
theorem dX50_check_77 : decode cX50_check 77 = .ok (.iconst 0, 1) := by decide +kernel
theorem dX50_check_78 : decode cX50_check 78 = .ok (.invokevirtual 185, 3) := by decide +kernel
theorem dX50_check_81 : decode cX50_check 81 = .ok (.ifCond .eq 7, 3) := by decide +kernel
theorem dX50_check_84 : decode cX50_check 84 = .ok (.iconst 1, 1) := by decide +kernel
theorem dX50_check_85 : decode cX50_check 85 = .ok (.goto 4, 3) := by decide +kernel
theorem dX50_check_88 : decode cX50_check 88 = .ok (.iconst 0, 1) := by decide +kernel
theorem dX50_check_89 : decode cX50_check 89 = .ok (.istore_n 3, 1) := by decide +kernel
theorem dX50_check_90 : decode cX50_check 90 = .ok (.iinc 4 1, 3) := by decide +kernel
theorem dX50_check_93 : decode cX50_check 93 = .ok (.goto (-35), 3) := by decide +kernel
theorem dX50_check_96 : decode cX50_check 96 = .ok (.iload_n 3, 1) := by decide +kernel
theorem dX50_check_97 : decode cX50_check 97 = .ok (.ifCond .eq 8, 3) := by decide +kernel
theorem dX50_check_100 : decode cX50_check 100 = .ok (.aload_n 0, 1) := by decide +kernel
theorem dX50_check_101 : decode cX50_check 101 = .ok (.iload_n 2, 1) := by decide +kernel
theorem dX50_check_102 : decode cX50_check 102 = .ok (.putfield 218, 3) := by decide +kernel
theorem dX50_check_105 : decode cX50_check 105 = .ok (.iinc 2 (-1), 3) := by decide +kernel
theorem dX50_check_108 : decode cX50_check 108 = .ok (.goto (-80), 3) := by decide +kernel
theorem dX50_check_111 : decode cX50_check 111 = .ok (.aload_n 0, 1) := by decide +kernel
theorem dX50_check_112 : decode cX50_check 112 = .ok (.iload_n 1, 1) := by decide +kernel
theorem dX50_check_113 : decode cX50_check 113 = .ok (.invokevirtual 221, 3) := by decide +kernel
theorem dX50_check_116 : decode cX50_check 116 = .ok (.ifCond .eq 7, 3) := by decide +kernel
theorem dX50_check_119 : decode cX50_check 119 = .ok (.iconst 1, 1) := by decide +kernel
theorem dX50_check_120 : decode cX50_check 120 = .ok (.goto 4, 3) := by decide +kernel
theorem dX50_check_123 : decode cX50_check 123 = .ok (.iconst 0, 1) := by decide +kernel
theorem dX50_check_124 : decode cX50_check 124 = .ok (.ireturn, 1) := by decide +kernel
abbrev cX50_mark : ByteArray := prog_85_method_20_code
def yX50_mark : MethodName := ⟨RX50, "mark", "(I)I"⟩
theorem dX50_mark_0 : decode cX50_mark 0 = .ok (.iconst 1, 1) := by decide +kernel
theorem dX50_mark_1 : decode cX50_mark 1 = .ok (.istore_n 2, 1) := by decide +kernel
theorem dX50_mark_2 : decode cX50_mark 2 = .ok (.iload_n 2, 1) := by decide +kernel
theorem dX50_mark_3 : decode cX50_mark 3 = .ok (.aload_n 0, 1) := by decide +kernel
theorem dX50_mark_4 : decode cX50_mark 4 = .ok (.getfield 167, 3) := by decide +kernel
theorem dX50_mark_7 : decode cX50_mark 7 = .ok (.if_icmp .gt 25, 3) := by decide +kernel
theorem dX50_mark_10 : decode cX50_mark 10 = .ok (.aload_n 0, 1) := by decide +kernel
theorem dX50_mark_11 : decode cX50_mark 11 = .ok (.getfield 143, 3) := by decide +kernel
theorem dX50_mark_14 : decode cX50_mark 14 = .ok (.iload_n 2, 1) := by decide +kernel
theorem dX50_mark_15 : decode cX50_mark 15 = .ok (.iload_n 2, 1) := by decide +kernel
theorem dX50_mark_16 : decode cX50_mark 16 = .ok (.iload_n 1, 1) := by decide +kernel
theorem dX50_mark_17 : decode cX50_mark 17 = .ok (.if_icmp .ne 7, 3) := by decide +kernel
theorem dX50_mark_20 : decode cX50_mark 20 = .ok (.iconst 1, 1) := by decide +kernel
theorem dX50_mark_21 : decode cX50_mark 21 = .ok (.goto 4, 3) := by decide +kernel
theorem dX50_mark_24 : decode cX50_mark 24 = .ok (.iconst 0, 1) := by decide +kernel
theorem dX50_mark_25 : decode cX50_mark 25 = .ok (.bastore, 1) := by decide +kernel
theorem dX50_mark_26 : decode cX50_mark 26 = .ok (.iinc 2 1, 3) := by decide +kernel
theorem dX50_mark_29 : decode cX50_mark 29 = .ok (.goto (-27), 3) := by decide +kernel
theorem dX50_mark_32 : decode cX50_mark 32 = .ok (.iconst 0, 1) := by decide +kernel
theorem dX50_mark_33 : decode cX50_mark 33 = .ok (.istore_n 2, 1) := by decide +kernel
theorem dX50_mark_34 : decode cX50_mark 34 = .ok (.iload_n 1, 1) := by decide +kernel
theorem dX50_mark_35 : decode cX50_mark 35 = .ok (.istore_n 3, 1) := by decide +kernel
theorem dX50_mark_36 : decode cX50_mark 36 = .ok (.iload_n 3, 1) := by decide +kernel
theorem dX50_mark_37 : decode cX50_mark 37 = .ok (.ifCond .le 61, 3) := by decide +kernel
theorem dX50_mark_40 : decode cX50_mark 40 = .ok (.aload_n 0, 1) := by decide +kernel
theorem dX50_mark_41 : decode cX50_mark 41 = .ok (.getfield 143, 3) := by decide +kernel
theorem dX50_mark_44 : decode cX50_mark 44 = .ok (.iload_n 3, 1) := by decide +kernel
theorem dX50_mark_45 : decode cX50_mark 45 = .ok (.baload, 1) := by decide +kernel
theorem dX50_mark_46 : decode cX50_mark 46 = .ok (.ifCond .ne 6, 3) := by decide +kernel
theorem dX50_mark_49 : decode cX50_mark 49 = .ok (.goto 43, 3) := by decide +kernel
theorem dX50_mark_52 : decode cX50_mark 52 = .ok (.iinc 2 1, 3) := by decide +kernel
theorem dX50_mark_55 : decode cX50_mark 55 = .ok (.iconst 0, 1) := by decide +kernel
theorem dX50_mark_56 : decode cX50_mark 56 = .ok (.istore 4, 2) := by decide +kernel
theorem dX50_mark_58 : decode cX50_mark 58 = .ok (.iload 4, 2) := by decide +kernel
theorem dX50_mark_60 : decode cX50_mark 60 = .ok (.aload_n 0, 1) := by decide +kernel
theorem dX50_mark_61 : decode cX50_mark 61 = .ok (.getfield 134, 3) := by decide +kernel
theorem dX50_mark_64 : decode cX50_mark 64 = .ok (.iload_n 3, 1) := by decide +kernel
theorem dX50_mark_65 : decode cX50_mark 65 = .ok (.iaload, 1) := by decide +kernel
theorem dX50_mark_66 : decode cX50_mark 66 = .ok (.if_icmp .ge 26, 3) := by decide +kernel
theorem dX50_mark_69 : decode cX50_mark 69 = .ok (.aload_n 0, 1) := by decide +kernel
theorem dX50_mark_70 : decode cX50_mark 70 = .ok (.getfield 143, 3) := by decide +kernel
theorem dX50_mark_73 : decode cX50_mark 73 = .ok (.aload_n 0, 1) := by decide +kernel
theorem dX50_mark_74 : decode cX50_mark 74 = .ok (.getfield 137, 3) := by decide +kernel
theorem dX50_mark_77 : decode cX50_mark 77 = .ok (.iconst 3, 1) := by decide +kernel
theorem dX50_mark_78 : decode cX50_mark 78 = .ok (.iload_n 3, 1) := by decide +kernel
theorem dX50_mark_79 : decode cX50_mark 79 = .ok (.imul, 1) := by decide +kernel
theorem dX50_mark_80 : decode cX50_mark 80 = .ok (.iload 4, 2) := by decide +kernel
theorem dX50_mark_82 : decode cX50_mark 82 = .ok (.iadd, 1) := by decide +kernel
theorem dX50_mark_83 : decode cX50_mark 83 = .ok (.iaload, 1) := by decide +kernel
theorem dX50_mark_84 : decode cX50_mark 84 = .ok (.iconst 1, 1) := by decide +kernel
theorem dX50_mark_85 : decode cX50_mark 85 = .ok (.bastore, 1) := by decide +kernel
theorem dX50_mark_86 : decode cX50_mark 86 = .ok (.iinc 4 1, 3) := by decide +kernel
theorem dX50_mark_89 : decode cX50_mark 89 = .ok (.goto (-31), 3) := by decide +kernel
theorem dX50_mark_92 : decode cX50_mark 92 = .ok (.iinc 3 (-1), 3) := by decide +kernel
theorem dX50_mark_95 : decode cX50_mark 95 = .ok (.goto (-59), 3) := by decide +kernel
theorem dX50_mark_98 : decode cX50_mark 98 = .ok (.iload_n 2, 1) := by decide +kernel
theorem dX50_mark_99 : decode cX50_mark 99 = .ok (.ireturn, 1) := by decide +kernel
abbrev cX50_work : ByteArray := prog_85_method_16_code
def yX50_work : MethodName := ⟨RX50, "work", "(I)V"⟩
theorem dX50_work_0 : decode cX50_work 0 = .ok (.iconst 1, 1) := by decide +kernel
theorem dX50_work_1 : decode cX50_work 1 = .ok (.istore_n 2, 1) := by decide +kernel
theorem dX50_work_2 : decode cX50_work 2 = .ok (.iload_n 2, 1) := by decide +kernel
theorem dX50_work_3 : decode cX50_work 3 = .ok (.iload_n 1, 1) := by decide +kernel
theorem dX50_work_4 : decode cX50_work 4 = .ok (.if_icmp .gt 92, 3) := by decide +kernel
theorem dX50_work_7 : decode cX50_work 7 = .ok (.aload_n 0, 1) := by decide +kernel
theorem dX50_work_8 : decode cX50_work 8 = .ok (.iload_n 2, 1) := by decide +kernel
theorem dX50_work_9 : decode cX50_work 9 = .ok (.iconst 0, 1) := by decide +kernel
theorem dX50_work_10 : decode cX50_work 10 = .ok (.iconst 0, 1) := by decide +kernel
theorem dX50_work_11 : decode cX50_work 11 = .ok (.iconst 0, 1) := by decide +kernel
theorem dX50_work_12 : decode cX50_work 12 = .ok (.iconst 0, 1) := by decide +kernel
theorem dX50_work_13 : decode cX50_work 13 = .ok (.invokevirtual 189, 3) := by decide +kernel
theorem dX50_work_16 : decode cX50_work 16 = .ok (.aload_n 0, 1) := by decide +kernel
theorem dX50_work_17 : decode cX50_work 17 = .ok (.getfield 134, 3) := by decide +kernel
theorem dX50_work_20 : decode cX50_work 20 = .ok (.iload_n 2, 1) := by decide +kernel
theorem dX50_work_21 : decode cX50_work 21 = .ok (.iaload, 1) := by decide +kernel
theorem dX50_work_22 : decode cX50_work 22 = .ok (.aload_n 0, 1) := by decide +kernel
theorem dX50_work_23 : decode cX50_work 23 = .ok (.getfield 128, 3) := by decide +kernel
theorem dX50_work_26 : decode cX50_work 26 = .ok (.iload_n 2, 1) := by decide +kernel
theorem dX50_work_27 : decode cX50_work 27 = .ok (.iaload, 1) := by decide +kernel
theorem dX50_work_28 : decode cX50_work 28 = .ok (.invokestatic 177, 3) := by decide +kernel
theorem dX50_work_31 : decode cX50_work 31 = .ok (.if_icmp .ne 7, 3) := by decide +kernel
theorem dX50_work_34 : decode cX50_work 34 = .ok (.iconst 1, 1) := by decide +kernel
theorem dX50_work_35 : decode cX50_work 35 = .ok (.goto 4, 3) := by decide +kernel
theorem dX50_work_38 : decode cX50_work 38 = .ok (.iconst 0, 1) := by decide +kernel
theorem dX50_work_39 : decode cX50_work 39 = .ok (.istore_n 3, 1) := by decide +kernel
theorem dX50_work_40 : decode cX50_work 40 = .ok (.iconst 0, 1) := by decide +kernel
theorem dX50_work_41 : decode cX50_work 41 = .ok (.istore 4, 2) := by decide +kernel
theorem dX50_work_43 : decode cX50_work 43 = .ok (.iload 4, 2) := by decide +kernel
theorem dX50_work_45 : decode cX50_work 45 = .ok (.aload_n 0, 1) := by decide +kernel
theorem dX50_work_46 : decode cX50_work 46 = .ok (.getfield 134, 3) := by decide +kernel
theorem dX50_work_49 : decode cX50_work 49 = .ok (.iload_n 2, 1) := by decide +kernel
theorem dX50_work_50 : decode cX50_work 50 = .ok (.iaload, 1) := by decide +kernel
theorem dX50_work_51 : decode cX50_work 51 = .ok (.if_icmp .ge 30, 3) := by decide +kernel
theorem dX50_work_54 : decode cX50_work 54 = .ok (.iload_n 3, 1) := by decide +kernel
theorem dX50_work_55 : decode cX50_work 55 = .ok (.ifCond .eq 18, 3) := by decide +kernel
theorem dX50_work_58 : decode cX50_work 58 = .ok (.aload_n 0, 1) := by decide +kernel
theorem dX50_work_59 : decode cX50_work 59 = .ok (.iload_n 2, 1) := by decide +kernel
theorem dX50_work_60 : decode cX50_work 60 = .ok (.iload 4, 2) := by decide +kernel
theorem dX50_work_62 : decode cX50_work 62 = .ok (.iconst 0, 1) := by decide +kernel
theorem dX50_work_63 : decode cX50_work 63 = .ok (.invokevirtual 185, 3) := by decide +kernel
theorem dX50_work_66 : decode cX50_work 66 = .ok (.ifCond .eq 7, 3) := by decide +kernel
theorem dX50_work_69 : decode cX50_work 69 = .ok (.iconst 1, 1) := by decide +kernel
theorem dX50_work_70 : decode cX50_work 70 = .ok (.goto 4, 3) := by decide +kernel
theorem dX50_work_73 : decode cX50_work 73 = .ok (.iconst 0, 1) := by decide +kernel
theorem dX50_work_74 : decode cX50_work 74 = .ok (.istore_n 3, 1) := by decide +kernel
theorem dX50_work_75 : decode cX50_work 75 = .ok (.iinc 4 1, 3) := by decide +kernel
theorem dX50_work_78 : decode cX50_work 78 = .ok (.goto (-35), 3) := by decide +kernel
theorem dX50_work_81 : decode cX50_work 81 = .ok (.iload_n 3, 1) := by decide +kernel
theorem dX50_work_82 : decode cX50_work 82 = .ok (.ifCond .eq 8, 3) := by decide +kernel
theorem dX50_work_85 : decode cX50_work 85 = .ok (.aload_n 0, 1) := by decide +kernel
theorem dX50_work_86 : decode cX50_work 86 = .ok (.iload_n 2, 1) := by decide +kernel
theorem dX50_work_87 : decode cX50_work 87 = .ok (.invokevirtual 193, 3) := by decide +kernel
theorem dX50_work_90 : decode cX50_work 90 = .ok (.iinc 2 1, 3) := by decide +kernel
theorem dX50_work_93 : decode cX50_work 93 = .ok (.goto (-91), 3) := by decide +kernel
theorem dX50_work_96 : decode cX50_work 96 = .ok (.return_, 1) := by decide +kernel
abbrev cX50_state : ByteArray := prog_85_method_14_code
def yX50_state : MethodName := ⟨RX50, "state", "(IIIII)V"⟩
theorem dX50_state_0 : decode cX50_state 0 = .ok (.aload_n 0, 1) := by decide +kernel
theorem dX50_state_1 : decode cX50_state 1 = .ok (.getfield 140, 3) := by decide +kernel
theorem dX50_state_4 : decode cX50_state 4 = .ok (.iconst 4, 1) := by decide +kernel
theorem dX50_state_5 : decode cX50_state 5 = .ok (.iload_n 1, 1) := by decide +kernel
theorem dX50_state_6 : decode cX50_state 6 = .ok (.imul, 1) := by decide +kernel
theorem dX50_state_7 : decode cX50_state 7 = .ok (.iload_n 2, 1) := by decide +kernel
theorem dX50_state_8 : decode cX50_state 8 = .ok (.iastore, 1) := by decide +kernel
theorem dX50_state_9 : decode cX50_state 9 = .ok (.aload_n 0, 1) := by decide +kernel
theorem dX50_state_10 : decode cX50_state 10 = .ok (.getfield 140, 3) := by decide +kernel
theorem dX50_state_13 : decode cX50_state 13 = .ok (.iconst 4, 1) := by decide +kernel
theorem dX50_state_14 : decode cX50_state 14 = .ok (.iload_n 1, 1) := by decide +kernel
theorem dX50_state_15 : decode cX50_state 15 = .ok (.imul, 1) := by decide +kernel
theorem dX50_state_16 : decode cX50_state 16 = .ok (.iconst 1, 1) := by decide +kernel
theorem dX50_state_17 : decode cX50_state 17 = .ok (.iadd, 1) := by decide +kernel
theorem dX50_state_18 : decode cX50_state 18 = .ok (.iload_n 3, 1) := by decide +kernel
theorem dX50_state_19 : decode cX50_state 19 = .ok (.iastore, 1) := by decide +kernel
theorem dX50_state_20 : decode cX50_state 20 = .ok (.aload_n 0, 1) := by decide +kernel
theorem dX50_state_21 : decode cX50_state 21 = .ok (.getfield 140, 3) := by decide +kernel
theorem dX50_state_24 : decode cX50_state 24 = .ok (.iconst 4, 1) := by decide +kernel
theorem dX50_state_25 : decode cX50_state 25 = .ok (.iload_n 1, 1) := by decide +kernel
theorem dX50_state_26 : decode cX50_state 26 = .ok (.imul, 1) := by decide +kernel
theorem dX50_state_27 : decode cX50_state 27 = .ok (.iconst 2, 1) := by decide +kernel
theorem dX50_state_28 : decode cX50_state 28 = .ok (.iadd, 1) := by decide +kernel
theorem dX50_state_29 : decode cX50_state 29 = .ok (.iload 4, 2) := by decide +kernel
theorem dX50_state_31 : decode cX50_state 31 = .ok (.iastore, 1) := by decide +kernel
theorem dX50_state_32 : decode cX50_state 32 = .ok (.aload_n 0, 1) := by decide +kernel
theorem dX50_state_33 : decode cX50_state 33 = .ok (.getfield 140, 3) := by decide +kernel
theorem dX50_state_36 : decode cX50_state 36 = .ok (.iconst 4, 1) := by decide +kernel
theorem dX50_state_37 : decode cX50_state 37 = .ok (.iload_n 1, 1) := by decide +kernel
theorem dX50_state_38 : decode cX50_state 38 = .ok (.imul, 1) := by decide +kernel
theorem dX50_state_39 : decode cX50_state 39 = .ok (.iconst 3, 1) := by decide +kernel
theorem dX50_state_40 : decode cX50_state 40 = .ok (.iadd, 1) := by decide +kernel
theorem dX50_state_41 : decode cX50_state 41 = .ok (.iload 5, 2) := by decide +kernel
theorem dX50_state_43 : decode cX50_state 43 = .ok (.iastore, 1) := by decide +kernel
theorem dX50_state_44 : decode cX50_state 44 = .ok (.return_, 1) := by decide +kernel
abbrev cX50_of : ByteArray := prog_85_method_12_code
def yX50_of : MethodName := ⟨RX50, "of", "(III)I"⟩
theorem dX50_of_0 : decode cX50_of 0 = .ok (.aload_n 0, 1) := by decide +kernel
theorem dX50_of_1 : decode cX50_of 1 = .ok (.getfield 140, 3) := by decide +kernel
theorem dX50_of_4 : decode cX50_of 4 = .ok (.iconst 4, 1) := by decide +kernel
theorem dX50_of_5 : decode cX50_of 5 = .ok (.aload_n 0, 1) := by decide +kernel
theorem dX50_of_6 : decode cX50_of 6 = .ok (.getfield 137, 3) := by decide +kernel
theorem dX50_of_9 : decode cX50_of 9 = .ok (.iconst 3, 1) := by decide +kernel
theorem dX50_of_10 : decode cX50_of 10 = .ok (.iload_n 1, 1) := by decide +kernel
theorem dX50_of_11 : decode cX50_of 11 = .ok (.imul, 1) := by decide +kernel
theorem dX50_of_12 : decode cX50_of 12 = .ok (.iload_n 2, 1) := by decide +kernel
theorem dX50_of_13 : decode cX50_of 13 = .ok (.iadd, 1) := by decide +kernel
theorem dX50_of_14 : decode cX50_of 14 = .ok (.iaload, 1) := by decide +kernel
theorem dX50_of_15 : decode cX50_of 15 = .ok (.imul, 1) := by decide +kernel
theorem dX50_of_16 : decode cX50_of 16 = .ok (.iload_n 3, 1) := by decide +kernel
theorem dX50_of_17 : decode cX50_of 17 = .ok (.iadd, 1) := by decide +kernel
theorem dX50_of_18 : decode cX50_of 18 = .ok (.iaload, 1) := by decide +kernel
theorem dX50_of_19 : decode cX50_of 19 = .ok (.ireturn, 1) := by decide +kernel
abbrev cX50_single : ByteArray := prog_85_method_17_code
def yX50_single : MethodName := ⟨RX50, "single", "(I)V"⟩
theorem dX50_single_0 : decode cX50_single 0 = .ok (.aload_n 0, 1) := by decide +kernel
theorem dX50_single_1 : decode cX50_single 1 = .ok (.getfield 131, 3) := by decide +kernel
theorem dX50_single_4 : decode cX50_single 4 = .ok (.iload_n 1, 1) := by decide +kernel
theorem dX50_single_5 : decode cX50_single 5 = .ok (.iaload, 1) := by decide +kernel
theorem dX50_single_6 : decode cX50_single 6 = .ok (.istore_n 2, 1) := by decide +kernel
theorem dX50_single_7 : decode cX50_single 7 = .ok (.aload_n 0, 1) := by decide +kernel
theorem dX50_single_8 : decode cX50_single 8 = .ok (.getfield 128, 3) := by decide +kernel
theorem dX50_single_11 : decode cX50_single 11 = .ok (.iload_n 1, 1) := by decide +kernel
theorem dX50_single_12 : decode cX50_single 12 = .ok (.iaload, 1) := by decide +kernel
theorem dX50_single_13 : decode cX50_single 13 = .ok (.tableswitch 59 0 2 #[27, 38, 49], 27) := by decide +kernel
theorem dX50_single_40 : decode cX50_single 40 = .ok (.aload_n 0, 1) := by decide +kernel
theorem dX50_single_41 : decode cX50_single 41 = .ok (.aload_n 0, 1) := by decide +kernel
theorem dX50_single_42 : decode cX50_single 42 = .ok (.getfield 121, 3) := by decide +kernel
theorem dX50_single_45 : decode cX50_single 45 = .ok (.iload_n 2, 1) := by decide +kernel
theorem dX50_single_46 : decode cX50_single 46 = .ok (.iload_n 1, 1) := by decide +kernel
theorem dX50_single_47 : decode cX50_single 47 = .ok (.invokevirtual 197, 3) := by decide +kernel
theorem dX50_single_50 : decode cX50_single 50 = .ok (.return_, 1) := by decide +kernel
theorem dX50_single_51 : decode cX50_single 51 = .ok (.aload_n 0, 1) := by decide +kernel
theorem dX50_single_52 : decode cX50_single 52 = .ok (.aload_n 0, 1) := by decide +kernel
theorem dX50_single_53 : decode cX50_single 53 = .ok (.getfield 125, 3) := by decide +kernel
theorem dX50_single_56 : decode cX50_single 56 = .ok (.iload_n 2, 1) := by decide +kernel
theorem dX50_single_57 : decode cX50_single 57 = .ok (.iload_n 1, 1) := by decide +kernel
theorem dX50_single_58 : decode cX50_single 58 = .ok (.invokevirtual 197, 3) := by decide +kernel
theorem dX50_single_61 : decode cX50_single 61 = .ok (.return_, 1) := by decide +kernel
theorem dX50_single_62 : decode cX50_single 62 = .ok (.aload_n 0, 1) := by decide +kernel
theorem dX50_single_63 : decode cX50_single 63 = .ok (.iload_n 1, 1) := by decide +kernel
theorem dX50_single_64 : decode cX50_single 64 = .ok (.iconst 1, 1) := by decide +kernel
theorem dX50_single_65 : decode cX50_single 65 = .ok (.iload_n 2, 1) := by decide +kernel
theorem dX50_single_66 : decode cX50_single 66 = .ok (.iload_n 2, 1) := by decide +kernel
theorem dX50_single_67 : decode cX50_single 67 = .ok (.iconst 0, 1) := by decide +kernel
theorem dX50_single_68 : decode cX50_single 68 = .ok (.invokevirtual 189, 3) := by decide +kernel
theorem dX50_single_71 : decode cX50_single 71 = .ok (.return_, 1) := by decide +kernel
theorem dX50_single_72 : decode cX50_single 72 = .ok (.aload_n 0, 1) := by decide +kernel
theorem dX50_single_73 : decode cX50_single 73 = .ok (.iload_n 1, 1) := by decide +kernel
theorem dX50_single_74 : decode cX50_single 74 = .ok (.invokevirtual 201, 3) := by decide +kernel
theorem dX50_single_77 : decode cX50_single 77 = .ok (.return_, 1) := by decide +kernel
abbrev cX50_copy : ByteArray := prog_85_method_15_code
def yX50_copy : MethodName := ⟨RX50, "copy", "([III)V"⟩
theorem dX50_copy_0 : decode cX50_copy 0 = .ok (.aload_n 0, 1) := by decide +kernel
theorem dX50_copy_1 : decode cX50_copy 1 = .ok (.iload_n 3, 1) := by decide +kernel
theorem dX50_copy_2 : decode cX50_copy 2 = .ok (.aload_n 1, 1) := by decide +kernel
theorem dX50_copy_3 : decode cX50_copy 3 = .ok (.iconst 4, 1) := by decide +kernel
theorem dX50_copy_4 : decode cX50_copy 4 = .ok (.iload_n 2, 1) := by decide +kernel
theorem dX50_copy_5 : decode cX50_copy 5 = .ok (.imul, 1) := by decide +kernel
theorem dX50_copy_6 : decode cX50_copy 6 = .ok (.iaload, 1) := by decide +kernel
theorem dX50_copy_7 : decode cX50_copy 7 = .ok (.aload_n 1, 1) := by decide +kernel
theorem dX50_copy_8 : decode cX50_copy 8 = .ok (.iconst 4, 1) := by decide +kernel
theorem dX50_copy_9 : decode cX50_copy 9 = .ok (.iload_n 2, 1) := by decide +kernel
theorem dX50_copy_10 : decode cX50_copy 10 = .ok (.imul, 1) := by decide +kernel
theorem dX50_copy_11 : decode cX50_copy 11 = .ok (.iconst 1, 1) := by decide +kernel
theorem dX50_copy_12 : decode cX50_copy 12 = .ok (.iadd, 1) := by decide +kernel
theorem dX50_copy_13 : decode cX50_copy 13 = .ok (.iaload, 1) := by decide +kernel
theorem dX50_copy_14 : decode cX50_copy 14 = .ok (.aload_n 1, 1) := by decide +kernel
theorem dX50_copy_15 : decode cX50_copy 15 = .ok (.iconst 4, 1) := by decide +kernel
theorem dX50_copy_16 : decode cX50_copy 16 = .ok (.iload_n 2, 1) := by decide +kernel
theorem dX50_copy_17 : decode cX50_copy 17 = .ok (.imul, 1) := by decide +kernel
theorem dX50_copy_18 : decode cX50_copy 18 = .ok (.iconst 2, 1) := by decide +kernel
theorem dX50_copy_19 : decode cX50_copy 19 = .ok (.iadd, 1) := by decide +kernel
theorem dX50_copy_20 : decode cX50_copy 20 = .ok (.iaload, 1) := by decide +kernel
theorem dX50_copy_21 : decode cX50_copy 21 = .ok (.aload_n 1, 1) := by decide +kernel
theorem dX50_copy_22 : decode cX50_copy 22 = .ok (.iconst 4, 1) := by decide +kernel
theorem dX50_copy_23 : decode cX50_copy 23 = .ok (.iload_n 2, 1) := by decide +kernel
theorem dX50_copy_24 : decode cX50_copy 24 = .ok (.imul, 1) := by decide +kernel
theorem dX50_copy_25 : decode cX50_copy 25 = .ok (.iconst 3, 1) := by decide +kernel
theorem dX50_copy_26 : decode cX50_copy 26 = .ok (.iadd, 1) := by decide +kernel
theorem dX50_copy_27 : decode cX50_copy 27 = .ok (.iaload, 1) := by decide +kernel
theorem dX50_copy_28 : decode cX50_copy 28 = .ok (.invokevirtual 189, 3) := by decide +kernel
theorem dX50_copy_31 : decode cX50_copy 31 = .ok (.return_, 1) := by decide +kernel
abbrev cX50_chain : ByteArray := prog_85_method_18_code
def yX50_chain : MethodName := ⟨RX50, "chain", "(I)V"⟩
theorem dX50_chain_0 : decode cX50_chain 0 = .ok (.aload_n 0, 1) := by decide +kernel
theorem dX50_chain_1 : decode cX50_chain 1 = .ok (.getfield 134, 3) := by decide +kernel
theorem dX50_chain_4 : decode cX50_chain 4 = .ok (.iload_n 1, 1) := by decide +kernel
theorem dX50_chain_5 : decode cX50_chain 5 = .ok (.iaload, 1) := by decide +kernel
theorem dX50_chain_6 : decode cX50_chain 6 = .ok (.iconst 1, 1) := by decide +kernel
theorem dX50_chain_7 : decode cX50_chain 7 = .ok (.if_icmp .le 18, 3) := by decide +kernel
theorem dX50_chain_10 : decode cX50_chain 10 = .ok (.aload_n 0, 1) := by decide +kernel
theorem dX50_chain_11 : decode cX50_chain 11 = .ok (.iload_n 1, 1) := by decide +kernel
theorem dX50_chain_12 : decode cX50_chain 12 = .ok (.iconst 1, 1) := by decide +kernel
theorem dX50_chain_13 : decode cX50_chain 13 = .ok (.bipush 11, 2) := by decide +kernel
theorem dX50_chain_15 : decode cX50_chain 15 = .ok (.invokevirtual 204, 3) := by decide +kernel
theorem dX50_chain_18 : decode cX50_chain 18 = .ok (.ifCond .eq 7, 3) := by decide +kernel
theorem dX50_chain_21 : decode cX50_chain 21 = .ok (.iconst 1, 1) := by decide +kernel
theorem dX50_chain_22 : decode cX50_chain 22 = .ok (.goto 4, 3) := by decide +kernel
theorem dX50_chain_25 : decode cX50_chain 25 = .ok (.iconst 0, 1) := by decide +kernel
theorem dX50_chain_26 : decode cX50_chain 26 = .ok (.istore_n 2, 1) := by decide +kernel
theorem dX50_chain_27 : decode cX50_chain 27 = .ok (.aload_n 0, 1) := by decide +kernel
theorem dX50_chain_28 : decode cX50_chain 28 = .ok (.getfield 134, 3) := by decide +kernel
theorem dX50_chain_31 : decode cX50_chain 31 = .ok (.iload_n 1, 1) := by decide +kernel
theorem dX50_chain_32 : decode cX50_chain 32 = .ok (.iaload, 1) := by decide +kernel
theorem dX50_chain_33 : decode cX50_chain 33 = .ok (.iconst 1, 1) := by decide +kernel
theorem dX50_chain_34 : decode cX50_chain 34 = .ok (.if_icmp .le 13, 3) := by decide +kernel
theorem dX50_chain_37 : decode cX50_chain 37 = .ok (.aload_n 0, 1) := by decide +kernel
theorem dX50_chain_38 : decode cX50_chain 38 = .ok (.iload_n 1, 1) := by decide +kernel
theorem dX50_chain_39 : decode cX50_chain 39 = .ok (.iconst 1, 1) := by decide +kernel
theorem dX50_chain_40 : decode cX50_chain 40 = .ok (.iconst 1, 1) := by decide +kernel
theorem dX50_chain_41 : decode cX50_chain 41 = .ok (.invokevirtual 185, 3) := by decide +kernel
theorem dX50_chain_44 : decode cX50_chain 44 = .ok (.goto 4, 3) := by decide +kernel
theorem dX50_chain_47 : decode cX50_chain 47 = .ok (.iconst 0, 1) := by decide +kernel
theorem dX50_chain_48 : decode cX50_chain 48 = .ok (.istore_n 3, 1) := by decide +kernel
theorem dX50_chain_49 : decode cX50_chain 49 = .ok (.aload_n 0, 1) := by decide +kernel
theorem dX50_chain_50 : decode cX50_chain 50 = .ok (.getfield 134, 3) := by decide +kernel
theorem dX50_chain_53 : decode cX50_chain 53 = .ok (.iload_n 1, 1) := by decide +kernel
theorem dX50_chain_54 : decode cX50_chain 54 = .ok (.iaload, 1) := by decide +kernel
theorem dX50_chain_55 : decode cX50_chain 55 = .ok (.iconst 1, 1) := by decide +kernel
theorem dX50_chain_56 : decode cX50_chain 56 = .ok (.if_icmp .le 13, 3) := by decide +kernel
theorem dX50_chain_59 : decode cX50_chain 59 = .ok (.aload_n 0, 1) := by decide +kernel
theorem dX50_chain_60 : decode cX50_chain 60 = .ok (.iload_n 1, 1) := by decide +kernel
theorem dX50_chain_61 : decode cX50_chain 61 = .ok (.iconst 1, 1) := by decide +kernel
theorem dX50_chain_62 : decode cX50_chain 62 = .ok (.iconst 2, 1) := by decide +kernel
theorem dX50_chain_63 : decode cX50_chain 63 = .ok (.invokevirtual 185, 3) := by decide +kernel
theorem dX50_chain_66 : decode cX50_chain 66 = .ok (.goto 4, 3) := by decide +kernel
theorem dX50_chain_69 : decode cX50_chain 69 = .ok (.iconst 0, 1) := by decide +kernel
theorem dX50_chain_70 : decode cX50_chain 70 = .ok (.istore 4, 2) := by decide +kernel
theorem dX50_chain_72 : decode cX50_chain 72 = .ok (.aload_n 0, 1) := by decide +kernel
theorem dX50_chain_73 : decode cX50_chain 73 = .ok (.getfield 134, 3) := by decide +kernel
theorem dX50_chain_76 : decode cX50_chain 76 = .ok (.iload_n 1, 1) := by decide +kernel
theorem dX50_chain_77 : decode cX50_chain 77 = .ok (.iaload, 1) := by decide +kernel
theorem dX50_chain_78 : decode cX50_chain 78 = .ok (.iconst 1, 1) := by decide +kernel
theorem dX50_chain_79 : decode cX50_chain 79 = .ok (.if_icmp .le 13, 3) := by decide +kernel
theorem dX50_chain_82 : decode cX50_chain 82 = .ok (.aload_n 0, 1) := by decide +kernel
theorem dX50_chain_83 : decode cX50_chain 83 = .ok (.iload_n 1, 1) := by decide +kernel
theorem dX50_chain_84 : decode cX50_chain 84 = .ok (.iconst 1, 1) := by decide +kernel
theorem dX50_chain_85 : decode cX50_chain 85 = .ok (.iconst 3, 1) := by decide +kernel
theorem dX50_chain_86 : decode cX50_chain 86 = .ok (.invokevirtual 185, 3) := by decide +kernel
theorem dX50_chain_89 : decode cX50_chain 89 = .ok (.goto 4, 3) := by decide +kernel
theorem dX50_chain_92 : decode cX50_chain 92 = .ok (.iconst 0, 1) := by decide +kernel
theorem dX50_chain_93 : decode cX50_chain 93 = .ok (.istore 5, 2) := by decide +kernel
theorem dX50_chain_95 : decode cX50_chain 95 = .ok (.aload_n 0, 1) := by decide +kernel
theorem dX50_chain_96 : decode cX50_chain 96 = .ok (.iload_n 1, 1) := by decide +kernel
theorem dX50_chain_97 : decode cX50_chain 97 = .ok (.iconst 0, 1) := by decide +kernel
theorem dX50_chain_98 : decode cX50_chain 98 = .ok (.iconst 1, 1) := by decide +kernel
theorem dX50_chain_99 : decode cX50_chain 99 = .ok (.invokevirtual 185, 3) := by decide +kernel
theorem dX50_chain_102 : decode cX50_chain 102 = .ok (.istore 6, 2) := by decide +kernel
theorem dX50_chain_104 : decode cX50_chain 104 = .ok (.aload_n 0, 1) := by decide +kernel
theorem dX50_chain_105 : decode cX50_chain 105 = .ok (.iload_n 1, 1) := by decide +kernel
theorem dX50_chain_106 : decode cX50_chain 106 = .ok (.iconst 0, 1) := by decide +kernel
theorem dX50_chain_107 : decode cX50_chain 107 = .ok (.iconst 2, 1) := by decide +kernel
theorem dX50_chain_108 : decode cX50_chain 108 = .ok (.invokevirtual 185, 3) := by decide +kernel
theorem dX50_chain_111 : decode cX50_chain 111 = .ok (.istore 7, 2) := by decide +kernel
theorem dX50_chain_113 : decode cX50_chain 113 = .ok (.aload_n 0, 1) := by decide +kernel
theorem dX50_chain_114 : decode cX50_chain 114 = .ok (.getfield 128, 3) := by decide +kernel
theorem dX50_chain_117 : decode cX50_chain 117 = .ok (.iload_n 1, 1) := by decide +kernel
theorem dX50_chain_118 : decode cX50_chain 118 = .ok (.iaload, 1) := by decide +kernel
theorem dX50_chain_119 : decode cX50_chain 119 = .ok (.tableswitch 508 3 17 #[73, 73, 126, 166, 202, 237, 273, 508, 310, 442, 347, 508, 508, 395, 479], 73) := by decide +kernel
theorem dX50_chain_192 : decode cX50_chain 192 = .ok (.aload_n 0, 1) := by decide +kernel
theorem dX50_chain_193 : decode cX50_chain 193 = .ok (.getfield 128, 3) := by decide +kernel
theorem dX50_chain_196 : decode cX50_chain 196 = .ok (.iload_n 1, 1) := by decide +kernel
theorem dX50_chain_197 : decode cX50_chain 197 = .ok (.iaload, 1) := by decide +kernel
theorem dX50_chain_198 : decode cX50_chain 198 = .ok (.iconst 2, 1) := by decide +kernel
theorem dX50_chain_199 : decode cX50_chain 199 = .ok (.isub, 1) := by decide +kernel
theorem dX50_chain_200 : decode cX50_chain 200 = .ok (.istore 8, 2) := by decide +kernel
theorem dX50_chain_202 : decode cX50_chain 202 = .ok (.aload_n 0, 1) := by decide +kernel
theorem dX50_chain_203 : decode cX50_chain 203 = .ok (.iload_n 1, 1) := by decide +kernel
theorem dX50_chain_204 : decode cX50_chain 204 = .ok (.iconst 0, 1) := by decide +kernel
theorem dX50_chain_205 : decode cX50_chain 205 = .ok (.iload 8, 2) := by decide +kernel
theorem dX50_chain_207 : decode cX50_chain 207 = .ok (.invokevirtual 204, 3) := by decide +kernel
theorem dX50_chain_210 : decode cX50_chain 210 = .ok (.ifCond .eq 442, 3) := by decide +kernel
theorem dX50_chain_213 : decode cX50_chain 213 = .ok (.aload_n 0, 1) := by decide +kernel
theorem dX50_chain_214 : decode cX50_chain 214 = .ok (.iload_n 1, 1) := by decide +kernel
theorem dX50_chain_215 : decode cX50_chain 215 = .ok (.iconst 1, 1) := by decide +kernel
theorem dX50_chain_216 : decode cX50_chain 216 = .ok (.iload 8, 2) := by decide +kernel
theorem dX50_chain_218 : decode cX50_chain 218 = .ok (.invokevirtual 204, 3) := by decide +kernel
theorem dX50_chain_221 : decode cX50_chain 221 = .ok (.ifCond .eq 431, 3) := by decide +kernel
theorem dX50_chain_224 : decode cX50_chain 224 = .ok (.iload 7, 2) := by decide +kernel
theorem dX50_chain_226 : decode cX50_chain 226 = .ok (.iload_n 3, 1) := by decide +kernel
theorem dX50_chain_227 : decode cX50_chain 227 = .ok (.if_icmp .ne 425, 3) := by decide +kernel
theorem dX50_chain_230 : decode cX50_chain 230 = .ok (.aload_n 0, 1) := by decide +kernel
theorem dX50_chain_231 : decode cX50_chain 231 = .ok (.iload_n 1, 1) := by decide +kernel
theorem dX50_chain_232 : decode cX50_chain 232 = .ok (.iload 8, 2) := by decide +kernel
theorem dX50_chain_234 : decode cX50_chain 234 = .ok (.iload 6, 2) := by decide +kernel
theorem dX50_chain_236 : decode cX50_chain 236 = .ok (.iload 4, 2) := by decide +kernel
theorem dX50_chain_238 : decode cX50_chain 238 = .ok (.iconst 0, 1) := by decide +kernel
theorem dX50_chain_239 : decode cX50_chain 239 = .ok (.invokevirtual 189, 3) := by decide +kernel
theorem dX50_chain_242 : decode cX50_chain 242 = .ok (.goto 410, 3) := by decide +kernel
theorem dX50_chain_245 : decode cX50_chain 245 = .ok (.aload_n 0, 1) := by decide +kernel
theorem dX50_chain_246 : decode cX50_chain 246 = .ok (.iload_n 1, 1) := by decide +kernel
theorem dX50_chain_247 : decode cX50_chain 247 = .ok (.iconst 0, 1) := by decide +kernel
theorem dX50_chain_248 : decode cX50_chain 248 = .ok (.iconst 1, 1) := by decide +kernel
theorem dX50_chain_249 : decode cX50_chain 249 = .ok (.invokevirtual 204, 3) := by decide +kernel
theorem dX50_chain_252 : decode cX50_chain 252 = .ok (.ifCond .eq 400, 3) := by decide +kernel
theorem dX50_chain_255 : decode cX50_chain 255 = .ok (.iload_n 2, 1) := by decide +kernel
theorem dX50_chain_256 : decode cX50_chain 256 = .ok (.ifCond .eq 396, 3) := by decide +kernel
theorem dX50_chain_259 : decode cX50_chain 259 = .ok (.iload 4, 2) := by decide +kernel
theorem dX50_chain_261 : decode cX50_chain 261 = .ok (.ifCond .ne 391, 3) := by decide +kernel
theorem dX50_chain_264 : decode cX50_chain 264 = .ok (.iload 5, 2) := by decide +kernel
theorem dX50_chain_266 : decode cX50_chain 266 = .ok (.iload 6, 2) := by decide +kernel
theorem dX50_chain_268 : decode cX50_chain 268 = .ok (.if_icmp .ne 384, 3) := by decide +kernel
theorem dX50_chain_271 : decode cX50_chain 271 = .ok (.aload_n 0, 1) := by decide +kernel
theorem dX50_chain_272 : decode cX50_chain 272 = .ok (.iload_n 1, 1) := by decide +kernel
theorem dX50_chain_273 : decode cX50_chain 273 = .ok (.bipush 11, 2) := by decide +kernel
theorem dX50_chain_275 : decode cX50_chain 275 = .ok (.iload_n 3, 1) := by decide +kernel
theorem dX50_chain_276 : decode cX50_chain 276 = .ok (.iconst 0, 1) := by decide +kernel
theorem dX50_chain_277 : decode cX50_chain 277 = .ok (.iload 7, 2) := by decide +kernel
theorem dX50_chain_279 : decode cX50_chain 279 = .ok (.invokevirtual 189, 3) := by decide +kernel
theorem dX50_chain_282 : decode cX50_chain 282 = .ok (.goto 370, 3) := by decide +kernel
theorem dX50_chain_285 : decode cX50_chain 285 = .ok (.aload_n 0, 1) := by decide +kernel
theorem dX50_chain_286 : decode cX50_chain 286 = .ok (.iload_n 1, 1) := by decide +kernel
theorem dX50_chain_287 : decode cX50_chain 287 = .ok (.iconst 0, 1) := by decide +kernel
theorem dX50_chain_288 : decode cX50_chain 288 = .ok (.iconst 2, 1) := by decide +kernel
theorem dX50_chain_289 : decode cX50_chain 289 = .ok (.invokevirtual 204, 3) := by decide +kernel
theorem dX50_chain_292 : decode cX50_chain 292 = .ok (.ifCond .eq 360, 3) := by decide +kernel
theorem dX50_chain_295 : decode cX50_chain 295 = .ok (.iload_n 2, 1) := by decide +kernel
theorem dX50_chain_296 : decode cX50_chain 296 = .ok (.ifCond .eq 356, 3) := by decide +kernel
theorem dX50_chain_299 : decode cX50_chain 299 = .ok (.iload 4, 2) := by decide +kernel
theorem dX50_chain_301 : decode cX50_chain 301 = .ok (.iload 6, 2) := by decide +kernel
theorem dX50_chain_303 : decode cX50_chain 303 = .ok (.if_icmp .ne 349, 3) := by decide +kernel
theorem dX50_chain_306 : decode cX50_chain 306 = .ok (.aload_n 0, 1) := by decide +kernel
theorem dX50_chain_307 : decode cX50_chain 307 = .ok (.iload_n 1, 1) := by decide +kernel
theorem dX50_chain_308 : decode cX50_chain 308 = .ok (.bipush 11, 2) := by decide +kernel
theorem dX50_chain_310 : decode cX50_chain 310 = .ok (.iload_n 3, 1) := by decide +kernel
theorem dX50_chain_311 : decode cX50_chain 311 = .ok (.iload 7, 2) := by decide +kernel
theorem dX50_chain_313 : decode cX50_chain 313 = .ok (.iload 5, 2) := by decide +kernel
theorem dX50_chain_315 : decode cX50_chain 315 = .ok (.invokevirtual 189, 3) := by decide +kernel
theorem dX50_chain_318 : decode cX50_chain 318 = .ok (.goto 334, 3) := by decide +kernel
theorem dX50_chain_321 : decode cX50_chain 321 = .ok (.aload_n 0, 1) := by decide +kernel
theorem dX50_chain_322 : decode cX50_chain 322 = .ok (.iload_n 1, 1) := by decide +kernel
theorem dX50_chain_323 : decode cX50_chain 323 = .ok (.iconst 0, 1) := by decide +kernel
theorem dX50_chain_324 : decode cX50_chain 324 = .ok (.iconst 3, 1) := by decide +kernel
theorem dX50_chain_325 : decode cX50_chain 325 = .ok (.invokevirtual 204, 3) := by decide +kernel
theorem dX50_chain_328 : decode cX50_chain 328 = .ok (.ifCond .eq 324, 3) := by decide +kernel
theorem dX50_chain_331 : decode cX50_chain 331 = .ok (.iload_n 2, 1) := by decide +kernel
theorem dX50_chain_332 : decode cX50_chain 332 = .ok (.ifCond .eq 320, 3) := by decide +kernel
theorem dX50_chain_335 : decode cX50_chain 335 = .ok (.iload 4, 2) := by decide +kernel
theorem dX50_chain_337 : decode cX50_chain 337 = .ok (.iload 6, 2) := by decide +kernel
theorem dX50_chain_339 : decode cX50_chain 339 = .ok (.if_icmp .ne 313, 3) := by decide +kernel
theorem dX50_chain_342 : decode cX50_chain 342 = .ok (.aload_n 0, 1) := by decide +kernel
theorem dX50_chain_343 : decode cX50_chain 343 = .ok (.iload_n 1, 1) := by decide +kernel
theorem dX50_chain_344 : decode cX50_chain 344 = .ok (.bipush 11, 2) := by decide +kernel
theorem dX50_chain_346 : decode cX50_chain 346 = .ok (.iload_n 3, 1) := by decide +kernel
theorem dX50_chain_347 : decode cX50_chain 347 = .ok (.iconst 0, 1) := by decide +kernel
theorem dX50_chain_348 : decode cX50_chain 348 = .ok (.iload 7, 2) := by decide +kernel
theorem dX50_chain_350 : decode cX50_chain 350 = .ok (.invokevirtual 189, 3) := by decide +kernel
theorem dX50_chain_353 : decode cX50_chain 353 = .ok (.goto 299, 3) := by decide +kernel
theorem dX50_chain_356 : decode cX50_chain 356 = .ok (.aload_n 0, 1) := by decide +kernel
theorem dX50_chain_357 : decode cX50_chain 357 = .ok (.iload_n 1, 1) := by decide +kernel
theorem dX50_chain_358 : decode cX50_chain 358 = .ok (.iconst 0, 1) := by decide +kernel
theorem dX50_chain_359 : decode cX50_chain 359 = .ok (.iconst 4, 1) := by decide +kernel
theorem dX50_chain_360 : decode cX50_chain 360 = .ok (.invokevirtual 204, 3) := by decide +kernel
theorem dX50_chain_363 : decode cX50_chain 363 = .ok (.ifCond .eq 289, 3) := by decide +kernel
theorem dX50_chain_366 : decode cX50_chain 366 = .ok (.iload_n 2, 1) := by decide +kernel
theorem dX50_chain_367 : decode cX50_chain 367 = .ok (.ifCond .eq 285, 3) := by decide +kernel
theorem dX50_chain_370 : decode cX50_chain 370 = .ok (.iload 4, 2) := by decide +kernel
theorem dX50_chain_372 : decode cX50_chain 372 = .ok (.iload 6, 2) := by decide +kernel
theorem dX50_chain_374 : decode cX50_chain 374 = .ok (.if_icmp .ne 278, 3) := by decide +kernel
theorem dX50_chain_377 : decode cX50_chain 377 = .ok (.aload_n 0, 1) := by decide +kernel
theorem dX50_chain_378 : decode cX50_chain 378 = .ok (.iload_n 1, 1) := by decide +kernel
theorem dX50_chain_379 : decode cX50_chain 379 = .ok (.bipush 11, 2) := by decide +kernel
theorem dX50_chain_381 : decode cX50_chain 381 = .ok (.iload 5, 2) := by decide +kernel
theorem dX50_chain_383 : decode cX50_chain 383 = .ok (.iconst 0, 1) := by decide +kernel
theorem dX50_chain_384 : decode cX50_chain 384 = .ok (.iload 7, 2) := by decide +kernel
theorem dX50_chain_386 : decode cX50_chain 386 = .ok (.invokevirtual 189, 3) := by decide +kernel
theorem dX50_chain_389 : decode cX50_chain 389 = .ok (.goto 263, 3) := by decide +kernel
theorem dX50_chain_392 : decode cX50_chain 392 = .ok (.aload_n 0, 1) := by decide +kernel
theorem dX50_chain_393 : decode cX50_chain 393 = .ok (.iload_n 1, 1) := by decide +kernel
theorem dX50_chain_394 : decode cX50_chain 394 = .ok (.iconst 0, 1) := by decide +kernel
theorem dX50_chain_395 : decode cX50_chain 395 = .ok (.bipush 7, 2) := by decide +kernel
theorem dX50_chain_397 : decode cX50_chain 397 = .ok (.invokevirtual 204, 3) := by decide +kernel
theorem dX50_chain_400 : decode cX50_chain 400 = .ok (.ifCond .eq 252, 3) := by decide +kernel
theorem dX50_chain_403 : decode cX50_chain 403 = .ok (.iload_n 2, 1) := by decide +kernel
theorem dX50_chain_404 : decode cX50_chain 404 = .ok (.ifCond .eq 248, 3) := by decide +kernel
theorem dX50_chain_407 : decode cX50_chain 407 = .ok (.iload 4, 2) := by decide +kernel
theorem dX50_chain_409 : decode cX50_chain 409 = .ok (.iload 6, 2) := by decide +kernel
theorem dX50_chain_411 : decode cX50_chain 411 = .ok (.if_icmp .ne 241, 3) := by decide +kernel
theorem dX50_chain_414 : decode cX50_chain 414 = .ok (.aload_n 0, 1) := by decide +kernel
theorem dX50_chain_415 : decode cX50_chain 415 = .ok (.iload_n 1, 1) := by decide +kernel
theorem dX50_chain_416 : decode cX50_chain 416 = .ok (.bipush 11, 2) := by decide +kernel
theorem dX50_chain_418 : decode cX50_chain 418 = .ok (.iload 5, 2) := by decide +kernel
theorem dX50_chain_420 : decode cX50_chain 420 = .ok (.iload 4, 2) := by decide +kernel
theorem dX50_chain_422 : decode cX50_chain 422 = .ok (.iload_n 3, 1) := by decide +kernel
theorem dX50_chain_423 : decode cX50_chain 423 = .ok (.invokevirtual 189, 3) := by decide +kernel
theorem dX50_chain_426 : decode cX50_chain 426 = .ok (.goto 226, 3) := by decide +kernel
theorem dX50_chain_429 : decode cX50_chain 429 = .ok (.aload_n 0, 1) := by decide +kernel
theorem dX50_chain_430 : decode cX50_chain 430 = .ok (.iload_n 1, 1) := by decide +kernel
theorem dX50_chain_431 : decode cX50_chain 431 = .ok (.iconst 0, 1) := by decide +kernel
theorem dX50_chain_432 : decode cX50_chain 432 = .ok (.bipush 8, 2) := by decide +kernel
theorem dX50_chain_434 : decode cX50_chain 434 = .ok (.invokevirtual 204, 3) := by decide +kernel
theorem dX50_chain_437 : decode cX50_chain 437 = .ok (.ifCond .eq 215, 3) := by decide +kernel
theorem dX50_chain_440 : decode cX50_chain 440 = .ok (.iload_n 2, 1) := by decide +kernel
theorem dX50_chain_441 : decode cX50_chain 441 = .ok (.ifCond .eq 211, 3) := by decide +kernel
theorem dX50_chain_444 : decode cX50_chain 444 = .ok (.iload 4, 2) := by decide +kernel
theorem dX50_chain_446 : decode cX50_chain 446 = .ok (.iload 6, 2) := by decide +kernel
theorem dX50_chain_448 : decode cX50_chain 448 = .ok (.if_icmp .ne 204, 3) := by decide +kernel
theorem dX50_chain_451 : decode cX50_chain 451 = .ok (.aload_n 0, 1) := by decide +kernel
theorem dX50_chain_452 : decode cX50_chain 452 = .ok (.iload_n 1, 1) := by decide +kernel
theorem dX50_chain_453 : decode cX50_chain 453 = .ok (.bipush 11, 2) := by decide +kernel
theorem dX50_chain_455 : decode cX50_chain 455 = .ok (.iload 5, 2) := by decide +kernel
theorem dX50_chain_457 : decode cX50_chain 457 = .ok (.iload 7, 2) := by decide +kernel
theorem dX50_chain_459 : decode cX50_chain 459 = .ok (.iload_n 3, 1) := by decide +kernel
theorem dX50_chain_460 : decode cX50_chain 460 = .ok (.invokevirtual 189, 3) := by decide +kernel
theorem dX50_chain_463 : decode cX50_chain 463 = .ok (.goto 189, 3) := by decide +kernel
theorem dX50_chain_466 : decode cX50_chain 466 = .ok (.aload_n 0, 1) := by decide +kernel
theorem dX50_chain_467 : decode cX50_chain 467 = .ok (.iload_n 1, 1) := by decide +kernel
theorem dX50_chain_468 : decode cX50_chain 468 = .ok (.iconst 0, 1) := by decide +kernel
theorem dX50_chain_469 : decode cX50_chain 469 = .ok (.bipush 11, 2) := by decide +kernel
theorem dX50_chain_471 : decode cX50_chain 471 = .ok (.invokevirtual 204, 3) := by decide +kernel
theorem dX50_chain_474 : decode cX50_chain 474 = .ok (.ifCond .eq 178, 3) := by decide +kernel
theorem dX50_chain_477 : decode cX50_chain 477 = .ok (.iload 7, 2) := by decide +kernel
theorem dX50_chain_479 : decode cX50_chain 479 = .ok (.iconst 1, 1) := by decide +kernel
theorem dX50_chain_480 : decode cX50_chain 480 = .ok (.if_icmp .ne 172, 3) := by decide +kernel
theorem dX50_chain_483 : decode cX50_chain 483 = .ok (.iload_n 2, 1) := by decide +kernel
theorem dX50_chain_484 : decode cX50_chain 484 = .ok (.ifCond .eq 168, 3) := by decide +kernel
theorem dX50_chain_487 : decode cX50_chain 487 = .ok (.iload_n 3, 1) := by decide +kernel
theorem dX50_chain_488 : decode cX50_chain 488 = .ok (.iload 6, 2) := by decide +kernel
theorem dX50_chain_490 : decode cX50_chain 490 = .ok (.if_icmp .ne 162, 3) := by decide +kernel
theorem dX50_chain_493 : decode cX50_chain 493 = .ok (.aload_n 0, 1) := by decide +kernel
theorem dX50_chain_494 : decode cX50_chain 494 = .ok (.iload_n 1, 1) := by decide +kernel
theorem dX50_chain_495 : decode cX50_chain 495 = .ok (.bipush 11, 2) := by decide +kernel
theorem dX50_chain_497 : decode cX50_chain 497 = .ok (.aload_n 0, 1) := by decide +kernel
theorem dX50_chain_498 : decode cX50_chain 498 = .ok (.iload_n 1, 1) := by decide +kernel
theorem dX50_chain_499 : decode cX50_chain 499 = .ok (.iconst 0, 1) := by decide +kernel
theorem dX50_chain_500 : decode cX50_chain 500 = .ok (.iconst 3, 1) := by decide +kernel
theorem dX50_chain_501 : decode cX50_chain 501 = .ok (.invokevirtual 185, 3) := by decide +kernel
theorem dX50_chain_504 : decode cX50_chain 504 = .ok (.iload 4, 2) := by decide +kernel
theorem dX50_chain_506 : decode cX50_chain 506 = .ok (.iload 5, 2) := by decide +kernel
theorem dX50_chain_508 : decode cX50_chain 508 = .ok (.invokevirtual 189, 3) := by decide +kernel
theorem dX50_chain_511 : decode cX50_chain 511 = .ok (.goto 141, 3) := by decide +kernel
theorem dX50_chain_514 : decode cX50_chain 514 = .ok (.aload_n 0, 1) := by decide +kernel
theorem dX50_chain_515 : decode cX50_chain 515 = .ok (.iload_n 1, 1) := by decide +kernel
theorem dX50_chain_516 : decode cX50_chain 516 = .ok (.iconst 0, 1) := by decide +kernel
theorem dX50_chain_517 : decode cX50_chain 517 = .ok (.bipush 10, 2) := by decide +kernel
theorem dX50_chain_519 : decode cX50_chain 519 = .ok (.invokevirtual 204, 3) := by decide +kernel
theorem dX50_chain_522 : decode cX50_chain 522 = .ok (.ifCond .eq 130, 3) := by decide +kernel
theorem dX50_chain_525 : decode cX50_chain 525 = .ok (.iload_n 2, 1) := by decide +kernel
theorem dX50_chain_526 : decode cX50_chain 526 = .ok (.ifCond .eq 126, 3) := by decide +kernel
theorem dX50_chain_529 : decode cX50_chain 529 = .ok (.iload 4, 2) := by decide +kernel
theorem dX50_chain_531 : decode cX50_chain 531 = .ok (.iconst 1, 1) := by decide +kernel
theorem dX50_chain_532 : decode cX50_chain 532 = .ok (.if_icmp .ne 120, 3) := by decide +kernel
theorem dX50_chain_535 : decode cX50_chain 535 = .ok (.iload_n 3, 1) := by decide +kernel
theorem dX50_chain_536 : decode cX50_chain 536 = .ok (.iload 6, 2) := by decide +kernel
theorem dX50_chain_538 : decode cX50_chain 538 = .ok (.if_icmp .ne 114, 3) := by decide +kernel
theorem dX50_chain_541 : decode cX50_chain 541 = .ok (.iload 5, 2) := by decide +kernel
theorem dX50_chain_543 : decode cX50_chain 543 = .ok (.iload 7, 2) := by decide +kernel
theorem dX50_chain_545 : decode cX50_chain 545 = .ok (.if_icmp .ne 107, 3) := by decide +kernel
theorem dX50_chain_548 : decode cX50_chain 548 = .ok (.aload_n 0, 1) := by decide +kernel
theorem dX50_chain_549 : decode cX50_chain 549 = .ok (.iload_n 1, 1) := by decide +kernel
theorem dX50_chain_550 : decode cX50_chain 550 = .ok (.bipush 12, 2) := by decide +kernel
theorem dX50_chain_552 : decode cX50_chain 552 = .ok (.iconst 0, 1) := by decide +kernel
theorem dX50_chain_553 : decode cX50_chain 553 = .ok (.iconst 0, 1) := by decide +kernel
theorem dX50_chain_554 : decode cX50_chain 554 = .ok (.iconst 0, 1) := by decide +kernel
theorem dX50_chain_555 : decode cX50_chain 555 = .ok (.invokevirtual 189, 3) := by decide +kernel
theorem dX50_chain_558 : decode cX50_chain 558 = .ok (.goto 94, 3) := by decide +kernel
theorem dX50_chain_561 : decode cX50_chain 561 = .ok (.aload_n 0, 1) := by decide +kernel
theorem dX50_chain_562 : decode cX50_chain 562 = .ok (.iload_n 1, 1) := by decide +kernel
theorem dX50_chain_563 : decode cX50_chain 563 = .ok (.iconst 0, 1) := by decide +kernel
theorem dX50_chain_564 : decode cX50_chain 564 = .ok (.bipush 11, 2) := by decide +kernel
theorem dX50_chain_566 : decode cX50_chain 566 = .ok (.invokevirtual 204, 3) := by decide +kernel
theorem dX50_chain_569 : decode cX50_chain 569 = .ok (.ifCond .eq 83, 3) := by decide +kernel
theorem dX50_chain_572 : decode cX50_chain 572 = .ok (.iload 7, 2) := by decide +kernel
theorem dX50_chain_574 : decode cX50_chain 574 = .ok (.iconst 1, 1) := by decide +kernel
theorem dX50_chain_575 : decode cX50_chain 575 = .ok (.if_icmp .ne 77, 3) := by decide +kernel
theorem dX50_chain_578 : decode cX50_chain 578 = .ok (.aload_n 0, 1) := by decide +kernel
theorem dX50_chain_579 : decode cX50_chain 579 = .ok (.iload_n 1, 1) := by decide +kernel
theorem dX50_chain_580 : decode cX50_chain 580 = .ok (.bipush 11, 2) := by decide +kernel
theorem dX50_chain_582 : decode cX50_chain 582 = .ok (.aload_n 0, 1) := by decide +kernel
theorem dX50_chain_583 : decode cX50_chain 583 = .ok (.iload_n 1, 1) := by decide +kernel
theorem dX50_chain_584 : decode cX50_chain 584 = .ok (.iconst 0, 1) := by decide +kernel
theorem dX50_chain_585 : decode cX50_chain 585 = .ok (.iconst 3, 1) := by decide +kernel
theorem dX50_chain_586 : decode cX50_chain 586 = .ok (.invokevirtual 185, 3) := by decide +kernel
theorem dX50_chain_589 : decode cX50_chain 589 = .ok (.iconst 1, 1) := by decide +kernel
theorem dX50_chain_590 : decode cX50_chain 590 = .ok (.iload 6, 2) := by decide +kernel
theorem dX50_chain_592 : decode cX50_chain 592 = .ok (.invokevirtual 189, 3) := by decide +kernel
theorem dX50_chain_595 : decode cX50_chain 595 = .ok (.goto 57, 3) := by decide +kernel
theorem dX50_chain_598 : decode cX50_chain 598 = .ok (.aload_n 0, 1) := by decide +kernel
theorem dX50_chain_599 : decode cX50_chain 599 = .ok (.iload_n 1, 1) := by decide +kernel
theorem dX50_chain_600 : decode cX50_chain 600 = .ok (.iconst 0, 1) := by decide +kernel
theorem dX50_chain_601 : decode cX50_chain 601 = .ok (.bipush 12, 2) := by decide +kernel
theorem dX50_chain_603 : decode cX50_chain 603 = .ok (.invokevirtual 204, 3) := by decide +kernel
theorem dX50_chain_606 : decode cX50_chain 606 = .ok (.ifCond .eq 46, 3) := by decide +kernel
theorem dX50_chain_609 : decode cX50_chain 609 = .ok (.aload_n 0, 1) := by decide +kernel
theorem dX50_chain_610 : decode cX50_chain 610 = .ok (.aload_n 0, 1) := by decide +kernel
theorem dX50_chain_611 : decode cX50_chain 611 = .ok (.getfield 125, 3) := by decide +kernel
theorem dX50_chain_614 : decode cX50_chain 614 = .ok (.aload_n 0, 1) := by decide +kernel
theorem dX50_chain_615 : decode cX50_chain 615 = .ok (.getfield 131, 3) := by decide +kernel
theorem dX50_chain_618 : decode cX50_chain 618 = .ok (.iload_n 1, 1) := by decide +kernel
theorem dX50_chain_619 : decode cX50_chain 619 = .ok (.iaload, 1) := by decide +kernel
theorem dX50_chain_620 : decode cX50_chain 620 = .ok (.iload_n 1, 1) := by decide +kernel
theorem dX50_chain_621 : decode cX50_chain 621 = .ok (.invokevirtual 197, 3) := by decide +kernel
theorem dX50_chain_624 : decode cX50_chain 624 = .ok (.goto 28, 3) := by decide +kernel
theorem dX50_chain_627 : decode cX50_chain 627 = .ok (.iload_n 2, 1) := by decide +kernel
theorem dX50_chain_628 : decode cX50_chain 628 = .ok (.ifCond .eq 24, 3) := by decide +kernel
theorem dX50_chain_631 : decode cX50_chain 631 = .ok (.aload_n 0, 1) := by decide +kernel
theorem dX50_chain_632 : decode cX50_chain 632 = .ok (.iload_n 1, 1) := by decide +kernel
theorem dX50_chain_633 : decode cX50_chain 633 = .ok (.iconst 2, 1) := by decide +kernel
theorem dX50_chain_634 : decode cX50_chain 634 = .ok (.bipush 11, 2) := by decide +kernel
theorem dX50_chain_636 : decode cX50_chain 636 = .ok (.invokevirtual 204, 3) := by decide +kernel
theorem dX50_chain_639 : decode cX50_chain 639 = .ok (.ifCond .eq 13, 3) := by decide +kernel
theorem dX50_chain_642 : decode cX50_chain 642 = .ok (.aload_n 0, 1) := by decide +kernel
theorem dX50_chain_643 : decode cX50_chain 643 = .ok (.iload_n 1, 1) := by decide +kernel
theorem dX50_chain_644 : decode cX50_chain 644 = .ok (.iload_n 3, 1) := by decide +kernel
theorem dX50_chain_645 : decode cX50_chain 645 = .ok (.iload 4, 2) := by decide +kernel
theorem dX50_chain_647 : decode cX50_chain 647 = .ok (.iload 5, 2) := by decide +kernel
theorem dX50_chain_649 : decode cX50_chain 649 = .ok (.invokevirtual 208, 3) := by decide +kernel
theorem dX50_chain_652 : decode cX50_chain 652 = .ok (.return_, 1) := by decide +kernel
abbrev cX50_is : ByteArray := prog_85_method_13_code
def yX50_is : MethodName := ⟨RX50, "is", "(III)Z"⟩
theorem dX50_is_0 : decode cX50_is 0 = .ok (.aload_n 0, 1) := by decide +kernel
theorem dX50_is_1 : decode cX50_is 1 = .ok (.iload_n 1, 1) := by decide +kernel
theorem dX50_is_2 : decode cX50_is 2 = .ok (.iload_n 2, 1) := by decide +kernel
theorem dX50_is_3 : decode cX50_is 3 = .ok (.iconst 0, 1) := by decide +kernel
theorem dX50_is_4 : decode cX50_is 4 = .ok (.invokevirtual 185, 3) := by decide +kernel
theorem dX50_is_7 : decode cX50_is 7 = .ok (.iload_n 3, 1) := by decide +kernel
theorem dX50_is_8 : decode cX50_is 8 = .ok (.if_icmp .ne 7, 3) := by decide +kernel
theorem dX50_is_11 : decode cX50_is 11 = .ok (.iconst 1, 1) := by decide +kernel
theorem dX50_is_12 : decode cX50_is 12 = .ok (.goto 4, 3) := by decide +kernel
theorem dX50_is_15 : decode cX50_is 15 = .ok (.iconst 0, 1) := by decide +kernel
theorem dX50_is_16 : decode cX50_is 16 = .ok (.ireturn, 1) := by decide +kernel
abbrev cX50_three : ByteArray := prog_85_method_19_code
def yX50_three : MethodName := ⟨RX50, "three", "(IIII)V"⟩
theorem dX50_three_0 : decode cX50_three 0 = .ok (.aload_n 0, 1) := by decide +kernel
theorem dX50_three_1 : decode cX50_three 1 = .ok (.iload_n 1, 1) := by decide +kernel
theorem dX50_three_2 : decode cX50_three 2 = .ok (.iconst 0, 1) := by decide +kernel
theorem dX50_three_3 : decode cX50_three 3 = .ok (.iconst 1, 1) := by decide +kernel
theorem dX50_three_4 : decode cX50_three 4 = .ok (.invokevirtual 185, 3) := by decide +kernel
theorem dX50_three_7 : decode cX50_three 7 = .ok (.istore 5, 2) := by decide +kernel
theorem dX50_three_9 : decode cX50_three 9 = .ok (.aload_n 0, 1) := by decide +kernel
theorem dX50_three_10 : decode cX50_three 10 = .ok (.iload_n 1, 1) := by decide +kernel
theorem dX50_three_11 : decode cX50_three 11 = .ok (.iconst 2, 1) := by decide +kernel
theorem dX50_three_12 : decode cX50_three 12 = .ok (.iconst 1, 1) := by decide +kernel
theorem dX50_three_13 : decode cX50_three 13 = .ok (.invokevirtual 185, 3) := by decide +kernel
theorem dX50_three_16 : decode cX50_three 16 = .ok (.istore 6, 2) := by decide +kernel
theorem dX50_three_18 : decode cX50_three 18 = .ok (.aload_n 0, 1) := by decide +kernel
theorem dX50_three_19 : decode cX50_three 19 = .ok (.iload_n 1, 1) := by decide +kernel
theorem dX50_three_20 : decode cX50_three 20 = .ok (.iconst 2, 1) := by decide +kernel
theorem dX50_three_21 : decode cX50_three 21 = .ok (.iconst 2, 1) := by decide +kernel
theorem dX50_three_22 : decode cX50_three 22 = .ok (.invokevirtual 185, 3) := by decide +kernel
theorem dX50_three_25 : decode cX50_three 25 = .ok (.istore 7, 2) := by decide +kernel
theorem dX50_three_27 : decode cX50_three 27 = .ok (.aload_n 0, 1) := by decide +kernel
theorem dX50_three_28 : decode cX50_three 28 = .ok (.iload_n 1, 1) := by decide +kernel
theorem dX50_three_29 : decode cX50_three 29 = .ok (.iconst 2, 1) := by decide +kernel
theorem dX50_three_30 : decode cX50_three 30 = .ok (.iconst 3, 1) := by decide +kernel
theorem dX50_three_31 : decode cX50_three 31 = .ok (.invokevirtual 185, 3) := by decide +kernel
theorem dX50_three_34 : decode cX50_three 34 = .ok (.istore 8, 2) := by decide +kernel
theorem dX50_three_36 : decode cX50_three 36 = .ok (.aload_n 0, 1) := by decide +kernel
theorem dX50_three_37 : decode cX50_three 37 = .ok (.getfield 128, 3) := by decide +kernel
theorem dX50_three_40 : decode cX50_three 40 = .ok (.iload_n 1, 1) := by decide +kernel
theorem dX50_three_41 : decode cX50_three 41 = .ok (.iaload, 1) := by decide +kernel
theorem dX50_three_42 : decode cX50_three 42 = .ok (.bipush 10, 2) := by decide +kernel
theorem dX50_three_44 : decode cX50_three 44 = .ok (.if_icmp .ne 45, 3) := by decide +kernel
theorem dX50_three_47 : decode cX50_three 47 = .ok (.aload_n 0, 1) := by decide +kernel
theorem dX50_three_48 : decode cX50_three 48 = .ok (.iload_n 1, 1) := by decide +kernel
theorem dX50_three_49 : decode cX50_three 49 = .ok (.iconst 0, 1) := by decide +kernel
theorem dX50_three_50 : decode cX50_three 50 = .ok (.bipush 6, 2) := by decide +kernel
theorem dX50_three_52 : decode cX50_three 52 = .ok (.invokevirtual 204, 3) := by decide +kernel
theorem dX50_three_55 : decode cX50_three 55 = .ok (.ifCond .eq 34, 3) := by decide +kernel
theorem dX50_three_58 : decode cX50_three 58 = .ok (.iload_n 3, 1) := by decide +kernel
theorem dX50_three_59 : decode cX50_three 59 = .ok (.iload 5, 2) := by decide +kernel
theorem dX50_three_61 : decode cX50_three 61 = .ok (.if_icmp .ne 28, 3) := by decide +kernel
theorem dX50_three_64 : decode cX50_three 64 = .ok (.iload 7, 2) := by decide +kernel
theorem dX50_three_66 : decode cX50_three 66 = .ok (.iload 5, 2) := by decide +kernel
theorem dX50_three_68 : decode cX50_three 68 = .ok (.if_icmp .ne 21, 3) := by decide +kernel
theorem dX50_three_71 : decode cX50_three 71 = .ok (.iload 4, 2) := by decide +kernel
theorem dX50_three_73 : decode cX50_three 73 = .ok (.iload 6, 2) := by decide +kernel
theorem dX50_three_75 : decode cX50_three 75 = .ok (.if_icmp .ne 14, 3) := by decide +kernel
theorem dX50_three_78 : decode cX50_three 78 = .ok (.aload_n 0, 1) := by decide +kernel
theorem dX50_three_79 : decode cX50_three 79 = .ok (.iload_n 1, 1) := by decide +kernel
theorem dX50_three_80 : decode cX50_three 80 = .ok (.bipush 11, 2) := by decide +kernel
theorem dX50_three_82 : decode cX50_three 82 = .ok (.iload_n 2, 1) := by decide +kernel
theorem dX50_three_83 : decode cX50_three 83 = .ok (.iload_n 3, 1) := by decide +kernel
theorem dX50_three_84 : decode cX50_three 84 = .ok (.iload 8, 2) := by decide +kernel
theorem dX50_three_86 : decode cX50_three 86 = .ok (.invokevirtual 189, 3) := by decide +kernel
theorem dX50_three_89 : decode cX50_three 89 = .ok (.aload_n 0, 1) := by decide +kernel
theorem dX50_three_90 : decode cX50_three 90 = .ok (.getfield 128, 3) := by decide +kernel
theorem dX50_three_93 : decode cX50_three 93 = .ok (.iload_n 1, 1) := by decide +kernel
theorem dX50_three_94 : decode cX50_three 94 = .ok (.iaload, 1) := by decide +kernel
theorem dX50_three_95 : decode cX50_three 95 = .ok (.bipush 14, 2) := by decide +kernel
theorem dX50_three_97 : decode cX50_three 97 = .ok (.if_icmp .ne 45, 3) := by decide +kernel
theorem dX50_three_100 : decode cX50_three 100 = .ok (.aload_n 0, 1) := by decide +kernel
theorem dX50_three_101 : decode cX50_three 101 = .ok (.iload_n 1, 1) := by decide +kernel
theorem dX50_three_102 : decode cX50_three 102 = .ok (.iconst 0, 1) := by decide +kernel
theorem dX50_three_103 : decode cX50_three 103 = .ok (.bipush 9, 2) := by decide +kernel
theorem dX50_three_105 : decode cX50_three 105 = .ok (.invokevirtual 204, 3) := by decide +kernel
theorem dX50_three_108 : decode cX50_three 108 = .ok (.ifCond .eq 34, 3) := by decide +kernel
theorem dX50_three_111 : decode cX50_three 111 = .ok (.iload_n 3, 1) := by decide +kernel
theorem dX50_three_112 : decode cX50_three 112 = .ok (.iload 5, 2) := by decide +kernel
theorem dX50_three_114 : decode cX50_three 114 = .ok (.if_icmp .ne 28, 3) := by decide +kernel
theorem dX50_three_117 : decode cX50_three 117 = .ok (.iload 7, 2) := by decide +kernel
theorem dX50_three_119 : decode cX50_three 119 = .ok (.iload 5, 2) := by decide +kernel
theorem dX50_three_121 : decode cX50_three 121 = .ok (.if_icmp .ne 21, 3) := by decide +kernel
theorem dX50_three_124 : decode cX50_three 124 = .ok (.iload_n 2, 1) := by decide +kernel
theorem dX50_three_125 : decode cX50_three 125 = .ok (.iload 6, 2) := by decide +kernel
theorem dX50_three_127 : decode cX50_three 127 = .ok (.if_icmp .ne 15, 3) := by decide +kernel
theorem dX50_three_130 : decode cX50_three 130 = .ok (.aload_n 0, 1) := by decide +kernel
theorem dX50_three_131 : decode cX50_three 131 = .ok (.iload_n 1, 1) := by decide +kernel
theorem dX50_three_132 : decode cX50_three 132 = .ok (.bipush 11, 2) := by decide +kernel
theorem dX50_three_134 : decode cX50_three 134 = .ok (.iload 4, 2) := by decide +kernel
theorem dX50_three_136 : decode cX50_three 136 = .ok (.iconst 1, 1) := by decide +kernel
theorem dX50_three_137 : decode cX50_three 137 = .ok (.iload 8, 2) := by decide +kernel
theorem dX50_three_139 : decode cX50_three 139 = .ok (.invokevirtual 189, 3) := by decide +kernel
theorem dX50_three_142 : decode cX50_three 142 = .ok (.aload_n 0, 1) := by decide +kernel
theorem dX50_three_143 : decode cX50_three 143 = .ok (.getfield 128, 3) := by decide +kernel
theorem dX50_three_146 : decode cX50_three 146 = .ok (.iload_n 1, 1) := by decide +kernel
theorem dX50_three_147 : decode cX50_three 147 = .ok (.iaload, 1) := by decide +kernel
theorem dX50_three_148 : decode cX50_three 148 = .ok (.bipush 15, 2) := by decide +kernel
theorem dX50_three_150 : decode cX50_three 150 = .ok (.if_icmp .ne 57, 3) := by decide +kernel
theorem dX50_three_153 : decode cX50_three 153 = .ok (.aload_n 0, 1) := by decide +kernel
theorem dX50_three_154 : decode cX50_three 154 = .ok (.iload_n 1, 1) := by decide +kernel
theorem dX50_three_155 : decode cX50_three 155 = .ok (.iconst 0, 1) := by decide +kernel
theorem dX50_three_156 : decode cX50_three 156 = .ok (.iconst 5, 1) := by decide +kernel
theorem dX50_three_157 : decode cX50_three 157 = .ok (.invokevirtual 204, 3) := by decide +kernel
theorem dX50_three_160 : decode cX50_three 160 = .ok (.ifCond .eq 47, 3) := by decide +kernel
theorem dX50_three_163 : decode cX50_three 163 = .ok (.iload_n 3, 1) := by decide +kernel
theorem dX50_three_164 : decode cX50_three 164 = .ok (.ifCond .ne 43, 3) := by decide +kernel
theorem dX50_three_167 : decode cX50_three 167 = .ok (.iload 7, 2) := by decide +kernel
theorem dX50_three_169 : decode cX50_three 169 = .ok (.ifCond .ne 38, 3) := by decide +kernel
theorem dX50_three_172 : decode cX50_three 172 = .ok (.iload 4, 2) := by decide +kernel
theorem dX50_three_174 : decode cX50_three 174 = .ok (.iload 5, 2) := by decide +kernel
theorem dX50_three_176 : decode cX50_three 176 = .ok (.if_icmp .ne 31, 3) := by decide +kernel
theorem dX50_three_179 : decode cX50_three 179 = .ok (.iload 8, 2) := by decide +kernel
theorem dX50_three_181 : decode cX50_three 181 = .ok (.aload_n 0, 1) := by decide +kernel
theorem dX50_three_182 : decode cX50_three 182 = .ok (.iload_n 1, 1) := by decide +kernel
theorem dX50_three_183 : decode cX50_three 183 = .ok (.iconst 0, 1) := by decide +kernel
theorem dX50_three_184 : decode cX50_three 184 = .ok (.iconst 2, 1) := by decide +kernel
theorem dX50_three_185 : decode cX50_three 185 = .ok (.invokevirtual 185, 3) := by decide +kernel
theorem dX50_three_188 : decode cX50_three 188 = .ok (.if_icmp .ne 19, 3) := by decide +kernel
theorem dX50_three_191 : decode cX50_three 191 = .ok (.iload_n 2, 1) := by decide +kernel
theorem dX50_three_192 : decode cX50_three 192 = .ok (.iload 6, 2) := by decide +kernel
theorem dX50_three_194 : decode cX50_three 194 = .ok (.if_icmp .ne 13, 3) := by decide +kernel
theorem dX50_three_197 : decode cX50_three 197 = .ok (.aload_n 0, 1) := by decide +kernel
theorem dX50_three_198 : decode cX50_three 198 = .ok (.iload_n 1, 1) := by decide +kernel
theorem dX50_three_199 : decode cX50_three 199 = .ok (.bipush 12, 2) := by decide +kernel
theorem dX50_three_201 : decode cX50_three 201 = .ok (.iconst 0, 1) := by decide +kernel
theorem dX50_three_202 : decode cX50_three 202 = .ok (.iconst 0, 1) := by decide +kernel
theorem dX50_three_203 : decode cX50_three 203 = .ok (.iconst 0, 1) := by decide +kernel
theorem dX50_three_204 : decode cX50_three 204 = .ok (.invokevirtual 189, 3) := by decide +kernel
theorem dX50_three_207 : decode cX50_three 207 = .ok (.return_, 1) := by decide +kernel
abbrev cX50_kindOf : ByteArray := prog_85_method_11_code
def yX50_kindOf : MethodName := ⟨RX50, "kindOf", "(I)I"⟩
theorem dX50_kindOf_0 : decode cX50_kindOf 0 = .ok (.aload_n 0, 1) := by decide +kernel
theorem dX50_kindOf_1 : decode cX50_kindOf 1 = .ok (.getfield 140, 3) := by decide +kernel
theorem dX50_kindOf_4 : decode cX50_kindOf 4 = .ok (.iconst 4, 1) := by decide +kernel
theorem dX50_kindOf_5 : decode cX50_kindOf 5 = .ok (.iload_n 1, 1) := by decide +kernel
theorem dX50_kindOf_6 : decode cX50_kindOf 6 = .ok (.imul, 1) := by decide +kernel
theorem dX50_kindOf_7 : decode cX50_kindOf 7 = .ok (.iaload, 1) := by decide +kernel
theorem dX50_kindOf_8 : decode cX50_kindOf 8 = .ok (.ireturn, 1) := by decide +kernel
abbrev cX50_broken : ByteArray := prog_85_method_22_code
def yX50_broken : MethodName := ⟨RX50, "broken", "()I"⟩
theorem dX50_broken_0 : decode cX50_broken 0 = .ok (.aload_n 0, 1) := by decide +kernel
theorem dX50_broken_1 : decode cX50_broken 1 = .ok (.getfield 218, 3) := by decide +kernel
theorem dX50_broken_4 : decode cX50_broken 4 = .ok (.ireturn, 1) := by decide +kernel
abbrev cX50_rows : ByteArray := prog_85_method_23_code
def yX50_rows : MethodName := ⟨RX50, "rows", "(I)I"⟩
theorem dX50_rows_0 : decode cX50_rows 0 = .ok (.aload_n 0, 1) := by decide +kernel
theorem dX50_rows_1 : decode cX50_rows 1 = .ok (.iload_n 1, 1) := by decide +kernel
theorem dX50_rows_2 : decode cX50_rows 2 = .ok (.invokevirtual 174, 3) := by decide +kernel
theorem dX50_rows_5 : decode cX50_rows 5 = .ok (.ifCond .eq 11, 3) := by decide +kernel
theorem dX50_rows_8 : decode cX50_rows 8 = .ok (.aload_n 0, 1) := by decide +kernel
theorem dX50_rows_9 : decode cX50_rows 9 = .ok (.iload_n 1, 1) := by decide +kernel
theorem dX50_rows_10 : decode cX50_rows 10 = .ok (.invokevirtual 212, 3) := by decide +kernel
theorem dX50_rows_13 : decode cX50_rows 13 = .ok (.goto 4, 3) := by decide +kernel
theorem dX50_rows_16 : decode cX50_rows 16 = .ok (.iconst (-1), 1) := by decide +kernel
theorem dX50_rows_17 : decode cX50_rows 17 = .ok (.ireturn, 1) := by decide +kernel
abbrev cX50_size : ByteArray := prog_85_method_24_code
def yX50_size : MethodName := ⟨RX50, "size", "(I)I"⟩
theorem dX50_size_0 : decode cX50_size 0 = .ok (.aload_n 0, 1) := by decide +kernel
theorem dX50_size_1 : decode cX50_size 1 = .ok (.iload_n 1, 1) := by decide +kernel
theorem dX50_size_2 : decode cX50_size 2 = .ok (.invokevirtual 174, 3) := by decide +kernel
theorem dX50_size_5 : decode cX50_size 5 = .ok (.ifCond .ne 5, 3) := by decide +kernel
theorem dX50_size_8 : decode cX50_size 8 = .ok (.iconst (-1), 1) := by decide +kernel
theorem dX50_size_9 : decode cX50_size 9 = .ok (.ireturn, 1) := by decide +kernel
theorem dX50_size_10 : decode cX50_size 10 = .ok (.iconst 1, 1) := by decide +kernel
theorem dX50_size_11 : decode cX50_size 11 = .ok (.istore_n 2, 1) := by decide +kernel
theorem dX50_size_12 : decode cX50_size 12 = .ok (.iload_n 2, 1) := by decide +kernel
theorem dX50_size_13 : decode cX50_size 13 = .ok (.iload_n 1, 1) := by decide +kernel
theorem dX50_size_14 : decode cX50_size 14 = .ok (.if_icmp .gt 72, 3) := by decide +kernel
theorem dX50_size_17 : decode cX50_size 17 = .ok (.lconst 1, 1) := by decide +kernel
theorem dX50_size_18 : decode cX50_size 18 = .ok (.lstore_n 3, 1) := by decide +kernel
theorem dX50_size_19 : decode cX50_size 19 = .ok (.iconst 0, 1) := by decide +kernel
theorem dX50_size_20 : decode cX50_size 20 = .ok (.istore 5, 2) := by decide +kernel
theorem dX50_size_22 : decode cX50_size 22 = .ok (.iload 5, 2) := by decide +kernel
theorem dX50_size_24 : decode cX50_size 24 = .ok (.aload_n 0, 1) := by decide +kernel
theorem dX50_size_25 : decode cX50_size 25 = .ok (.getfield 134, 3) := by decide +kernel
theorem dX50_size_28 : decode cX50_size 28 = .ok (.iload_n 2, 1) := by decide +kernel
theorem dX50_size_29 : decode cX50_size 29 = .ok (.iaload, 1) := by decide +kernel
theorem dX50_size_30 : decode cX50_size 30 = .ok (.if_icmp .ge 29, 3) := by decide +kernel
theorem dX50_size_33 : decode cX50_size 33 = .ok (.lload_n 3, 1) := by decide +kernel
theorem dX50_size_34 : decode cX50_size 34 = .ok (.aload_n 0, 1) := by decide +kernel
theorem dX50_size_35 : decode cX50_size 35 = .ok (.getfield 150, 3) := by decide +kernel
theorem dX50_size_38 : decode cX50_size 38 = .ok (.aload_n 0, 1) := by decide +kernel
theorem dX50_size_39 : decode cX50_size 39 = .ok (.getfield 137, 3) := by decide +kernel
theorem dX50_size_42 : decode cX50_size 42 = .ok (.iconst 3, 1) := by decide +kernel
theorem dX50_size_43 : decode cX50_size 43 = .ok (.iload_n 2, 1) := by decide +kernel
theorem dX50_size_44 : decode cX50_size 44 = .ok (.imul, 1) := by decide +kernel
theorem dX50_size_45 : decode cX50_size 45 = .ok (.iload 5, 2) := by decide +kernel
theorem dX50_size_47 : decode cX50_size 47 = .ok (.iadd, 1) := by decide +kernel
theorem dX50_size_48 : decode cX50_size 48 = .ok (.iaload, 1) := by decide +kernel
theorem dX50_size_49 : decode cX50_size 49 = .ok (.iaload, 1) := by decide +kernel
theorem dX50_size_50 : decode cX50_size 50 = .ok (.i2l, 1) := by decide +kernel
theorem dX50_size_51 : decode cX50_size 51 = .ok (.ladd, 1) := by decide +kernel
theorem dX50_size_52 : decode cX50_size 52 = .ok (.lstore_n 3, 1) := by decide +kernel
theorem dX50_size_53 : decode cX50_size 53 = .ok (.iinc 5 1, 3) := by decide +kernel
theorem dX50_size_56 : decode cX50_size 56 = .ok (.goto (-34), 3) := by decide +kernel
theorem dX50_size_59 : decode cX50_size 59 = .ok (.aload_n 0, 1) := by decide +kernel
theorem dX50_size_60 : decode cX50_size 60 = .ok (.getfield 150, 3) := by decide +kernel
theorem dX50_size_63 : decode cX50_size 63 = .ok (.iload_n 2, 1) := by decide +kernel
theorem dX50_size_64 : decode cX50_size 64 = .ok (.lload_n 3, 1) := by decide +kernel
theorem dX50_size_65 : decode cX50_size 65 = .ok (.ldc2_w 224, 3) := by decide +kernel
theorem dX50_size_68 : decode cX50_size 68 = .ok (.lcmp, 1) := by decide +kernel
theorem dX50_size_69 : decode cX50_size 69 = .ok (.ifCond .le 8, 3) := by decide +kernel
theorem dX50_size_72 : decode cX50_size 72 = .ok (.ldc 226, 2) := by decide +kernel
theorem dX50_size_74 : decode cX50_size 74 = .ok (.goto 5, 3) := by decide +kernel
theorem dX50_size_77 : decode cX50_size 77 = .ok (.lload_n 3, 1) := by decide +kernel
theorem dX50_size_78 : decode cX50_size 78 = .ok (.l2i, 1) := by decide +kernel
theorem dX50_size_79 : decode cX50_size 79 = .ok (.iastore, 1) := by decide +kernel
theorem dX50_size_80 : decode cX50_size 80 = .ok (.iinc 2 1, 3) := by decide +kernel
theorem dX50_size_83 : decode cX50_size 83 = .ok (.goto (-71), 3) := by decide +kernel
theorem dX50_size_86 : decode cX50_size 86 = .ok (.aload_n 0, 1) := by decide +kernel
theorem dX50_size_87 : decode cX50_size 87 = .ok (.getfield 150, 3) := by decide +kernel
theorem dX50_size_90 : decode cX50_size 90 = .ok (.iload_n 1, 1) := by decide +kernel
theorem dX50_size_91 : decode cX50_size 91 = .ok (.iaload, 1) := by decide +kernel
theorem dX50_size_92 : decode cX50_size 92 = .ok (.ireturn, 1) := by decide +kernel
abbrev cX50_drop : ByteArray := prog_85_method_25_code
def yX50_drop : MethodName := ⟨RX50, "drop", "(I)I"⟩
theorem dX50_drop_0 : decode cX50_drop 0 = .ok (.aload_n 0, 1) := by decide +kernel
theorem dX50_drop_1 : decode cX50_drop 1 = .ok (.iload_n 1, 1) := by decide +kernel
theorem dX50_drop_2 : decode cX50_drop 2 = .ok (.invokevirtual 174, 3) := by decide +kernel
theorem dX50_drop_5 : decode cX50_drop 5 = .ok (.ifCond .ne 5, 3) := by decide +kernel
theorem dX50_drop_8 : decode cX50_drop 8 = .ok (.iconst (-1), 1) := by decide +kernel
theorem dX50_drop_9 : decode cX50_drop 9 = .ok (.ireturn, 1) := by decide +kernel
theorem dX50_drop_10 : decode cX50_drop 10 = .ok (.aload_n 0, 1) := by decide +kernel
theorem dX50_drop_11 : decode cX50_drop 11 = .ok (.iload_n 1, 1) := by decide +kernel
theorem dX50_drop_12 : decode cX50_drop 12 = .ok (.invokevirtual 212, 3) := by decide +kernel
theorem dX50_drop_15 : decode cX50_drop 15 = .ok (.pop, 1) := by decide +kernel
theorem dX50_drop_16 : decode cX50_drop 16 = .ok (.iconst 0, 1) := by decide +kernel
theorem dX50_drop_17 : decode cX50_drop 17 = .ok (.istore_n 2, 1) := by decide +kernel
theorem dX50_drop_18 : decode cX50_drop 18 = .ok (.iconst 1, 1) := by decide +kernel
theorem dX50_drop_19 : decode cX50_drop 19 = .ok (.istore_n 3, 1) := by decide +kernel
theorem dX50_drop_20 : decode cX50_drop 20 = .ok (.iload_n 3, 1) := by decide +kernel
theorem dX50_drop_21 : decode cX50_drop 21 = .ok (.aload_n 0, 1) := by decide +kernel
theorem dX50_drop_22 : decode cX50_drop 22 = .ok (.getfield 167, 3) := by decide +kernel
theorem dX50_drop_25 : decode cX50_drop 25 = .ok (.if_icmp .gt 114, 3) := by decide +kernel
theorem dX50_drop_28 : decode cX50_drop 28 = .ok (.aload_n 0, 1) := by decide +kernel
theorem dX50_drop_29 : decode cX50_drop 29 = .ok (.getfield 143, 3) := by decide +kernel
theorem dX50_drop_32 : decode cX50_drop 32 = .ok (.iload_n 3, 1) := by decide +kernel
theorem dX50_drop_33 : decode cX50_drop 33 = .ok (.baload, 1) := by decide +kernel
theorem dX50_drop_34 : decode cX50_drop 34 = .ok (.ifCond .ne 6, 3) := by decide +kernel
theorem dX50_drop_37 : decode cX50_drop 37 = .ok (.goto 96, 3) := by decide +kernel
theorem dX50_drop_40 : decode cX50_drop 40 = .ok (.iinc 2 1, 3) := by decide +kernel
theorem dX50_drop_43 : decode cX50_drop 43 = .ok (.aload_n 0, 1) := by decide +kernel
theorem dX50_drop_44 : decode cX50_drop 44 = .ok (.getfield 153, 3) := by decide +kernel
theorem dX50_drop_47 : decode cX50_drop 47 = .ok (.iload_n 3, 1) := by decide +kernel
theorem dX50_drop_48 : decode cX50_drop 48 = .ok (.iload_n 2, 1) := by decide +kernel
theorem dX50_drop_49 : decode cX50_drop 49 = .ok (.iastore, 1) := by decide +kernel
theorem dX50_drop_50 : decode cX50_drop 50 = .ok (.aload_n 0, 1) := by decide +kernel
theorem dX50_drop_51 : decode cX50_drop 51 = .ok (.getfield 128, 3) := by decide +kernel
theorem dX50_drop_54 : decode cX50_drop 54 = .ok (.iload_n 2, 1) := by decide +kernel
theorem dX50_drop_55 : decode cX50_drop 55 = .ok (.aload_n 0, 1) := by decide +kernel
theorem dX50_drop_56 : decode cX50_drop 56 = .ok (.getfield 128, 3) := by decide +kernel
theorem dX50_drop_59 : decode cX50_drop 59 = .ok (.iload_n 3, 1) := by decide +kernel
theorem dX50_drop_60 : decode cX50_drop 60 = .ok (.iaload, 1) := by decide +kernel
theorem dX50_drop_61 : decode cX50_drop 61 = .ok (.iastore, 1) := by decide +kernel
theorem dX50_drop_62 : decode cX50_drop 62 = .ok (.aload_n 0, 1) := by decide +kernel
theorem dX50_drop_63 : decode cX50_drop 63 = .ok (.getfield 131, 3) := by decide +kernel
theorem dX50_drop_66 : decode cX50_drop 66 = .ok (.iload_n 2, 1) := by decide +kernel
theorem dX50_drop_67 : decode cX50_drop 67 = .ok (.aload_n 0, 1) := by decide +kernel
theorem dX50_drop_68 : decode cX50_drop 68 = .ok (.getfield 131, 3) := by decide +kernel
theorem dX50_drop_71 : decode cX50_drop 71 = .ok (.iload_n 3, 1) := by decide +kernel
theorem dX50_drop_72 : decode cX50_drop 72 = .ok (.iaload, 1) := by decide +kernel
theorem dX50_drop_73 : decode cX50_drop 73 = .ok (.iastore, 1) := by decide +kernel
theorem dX50_drop_74 : decode cX50_drop 74 = .ok (.aload_n 0, 1) := by decide +kernel
theorem dX50_drop_75 : decode cX50_drop 75 = .ok (.getfield 134, 3) := by decide +kernel
theorem dX50_drop_78 : decode cX50_drop 78 = .ok (.iload_n 3, 1) := by decide +kernel
theorem dX50_drop_79 : decode cX50_drop 79 = .ok (.iaload, 1) := by decide +kernel
theorem dX50_drop_80 : decode cX50_drop 80 = .ok (.istore 4, 2) := by decide +kernel
theorem dX50_drop_82 : decode cX50_drop 82 = .ok (.iconst 0, 1) := by decide +kernel
theorem dX50_drop_83 : decode cX50_drop 83 = .ok (.istore 5, 2) := by decide +kernel
theorem dX50_drop_85 : decode cX50_drop 85 = .ok (.iload 5, 2) := by decide +kernel
theorem dX50_drop_87 : decode cX50_drop 87 = .ok (.iload 4, 2) := by decide +kernel
theorem dX50_drop_89 : decode cX50_drop 89 = .ok (.if_icmp .ge 36, 3) := by decide +kernel
theorem dX50_drop_92 : decode cX50_drop 92 = .ok (.aload_n 0, 1) := by decide +kernel
theorem dX50_drop_93 : decode cX50_drop 93 = .ok (.getfield 137, 3) := by decide +kernel
theorem dX50_drop_96 : decode cX50_drop 96 = .ok (.iconst 3, 1) := by decide +kernel
theorem dX50_drop_97 : decode cX50_drop 97 = .ok (.iload_n 2, 1) := by decide +kernel
theorem dX50_drop_98 : decode cX50_drop 98 = .ok (.imul, 1) := by decide +kernel
theorem dX50_drop_99 : decode cX50_drop 99 = .ok (.iload 5, 2) := by decide +kernel
theorem dX50_drop_101 : decode cX50_drop 101 = .ok (.iadd, 1) := by decide +kernel
theorem dX50_drop_102 : decode cX50_drop 102 = .ok (.aload_n 0, 1) := by decide +kernel
theorem dX50_drop_103 : decode cX50_drop 103 = .ok (.getfield 153, 3) := by decide +kernel
theorem dX50_drop_106 : decode cX50_drop 106 = .ok (.aload_n 0, 1) := by decide +kernel
theorem dX50_drop_107 : decode cX50_drop 107 = .ok (.getfield 137, 3) := by decide +kernel
theorem dX50_drop_110 : decode cX50_drop 110 = .ok (.iconst 3, 1) := by decide +kernel
theorem dX50_drop_111 : decode cX50_drop 111 = .ok (.iload_n 3, 1) := by decide +kernel
theorem dX50_drop_112 : decode cX50_drop 112 = .ok (.imul, 1) := by decide +kernel
theorem dX50_drop_113 : decode cX50_drop 113 = .ok (.iload 5, 2) := by decide +kernel
theorem dX50_drop_115 : decode cX50_drop 115 = .ok (.iadd, 1) := by decide +kernel
theorem dX50_drop_116 : decode cX50_drop 116 = .ok (.iaload, 1) := by decide +kernel
theorem dX50_drop_117 : decode cX50_drop 117 = .ok (.iaload, 1) := by decide +kernel
theorem dX50_drop_118 : decode cX50_drop 118 = .ok (.iastore, 1) := by decide +kernel
theorem dX50_drop_119 : decode cX50_drop 119 = .ok (.iinc 5 1, 3) := by decide +kernel
theorem dX50_drop_122 : decode cX50_drop 122 = .ok (.goto (-37), 3) := by decide +kernel
theorem dX50_drop_125 : decode cX50_drop 125 = .ok (.aload_n 0, 1) := by decide +kernel
theorem dX50_drop_126 : decode cX50_drop 126 = .ok (.getfield 134, 3) := by decide +kernel
theorem dX50_drop_129 : decode cX50_drop 129 = .ok (.iload_n 2, 1) := by decide +kernel
theorem dX50_drop_130 : decode cX50_drop 130 = .ok (.iload 4, 2) := by decide +kernel
theorem dX50_drop_132 : decode cX50_drop 132 = .ok (.iastore, 1) := by decide +kernel
theorem dX50_drop_133 : decode cX50_drop 133 = .ok (.iinc 3 1, 3) := by decide +kernel
theorem dX50_drop_136 : decode cX50_drop 136 = .ok (.goto (-116), 3) := by decide +kernel
theorem dX50_drop_139 : decode cX50_drop 139 = .ok (.aload_n 0, 1) := by decide +kernel
theorem dX50_drop_140 : decode cX50_drop 140 = .ok (.iload_n 2, 1) := by decide +kernel
theorem dX50_drop_141 : decode cX50_drop 141 = .ok (.putfield 167, 3) := by decide +kernel
theorem dX50_drop_144 : decode cX50_drop 144 = .ok (.aload_n 0, 1) := by decide +kernel
theorem dX50_drop_145 : decode cX50_drop 145 = .ok (.iconst 0, 1) := by decide +kernel
theorem dX50_drop_146 : decode cX50_drop 146 = .ok (.putfield 218, 3) := by decide +kernel
theorem dX50_drop_149 : decode cX50_drop 149 = .ok (.iload_n 2, 1) := by decide +kernel
theorem dX50_drop_150 : decode cX50_drop 150 = .ok (.ireturn, 1) := by decide +kernel
abbrev cX50_name : ByteArray := prog_85_method_26_code
def yX50_name : MethodName := ⟨RX50, "name", "(I)I"⟩
theorem dX50_name_0 : decode cX50_name 0 = .ok (.aload_n 0, 1) := by decide +kernel
theorem dX50_name_1 : decode cX50_name 1 = .ok (.iload_n 1, 1) := by decide +kernel
theorem dX50_name_2 : decode cX50_name 2 = .ok (.invokevirtual 174, 3) := by decide +kernel
theorem dX50_name_5 : decode cX50_name 5 = .ok (.ifCond .eq 12, 3) := by decide +kernel
theorem dX50_name_8 : decode cX50_name 8 = .ok (.aload_n 0, 1) := by decide +kernel
theorem dX50_name_9 : decode cX50_name 9 = .ok (.getfield 128, 3) := by decide +kernel
theorem dX50_name_12 : decode cX50_name 12 = .ok (.iload_n 1, 1) := by decide +kernel
theorem dX50_name_13 : decode cX50_name 13 = .ok (.iaload, 1) := by decide +kernel
theorem dX50_name_14 : decode cX50_name 14 = .ok (.goto 4, 3) := by decide +kernel
theorem dX50_name_17 : decode cX50_name 17 = .ok (.iconst (-1), 1) := by decide +kernel
theorem dX50_name_18 : decode cX50_name 18 = .ok (.ireturn, 1) := by decide +kernel
abbrev cX50_states : ByteArray := prog_85_method_27_code
def yX50_states : MethodName := ⟨RX50, "states", "(II)I"⟩
theorem dX50_states_0 : decode cX50_states 0 = .ok (.aload_n 0, 1) := by decide +kernel
theorem dX50_states_1 : decode cX50_states 1 = .ok (.iload_n 1, 1) := by decide +kernel
theorem dX50_states_2 : decode cX50_states 2 = .ok (.invokevirtual 174, 3) := by decide +kernel
theorem dX50_states_5 : decode cX50_states 5 = .ok (.ifCond .ne 5, 3) := by decide +kernel
theorem dX50_states_8 : decode cX50_states 8 = .ok (.iconst (-1), 1) := by decide +kernel
theorem dX50_states_9 : decode cX50_states 9 = .ok (.ireturn, 1) := by decide +kernel
theorem dX50_states_10 : decode cX50_states 10 = .ok (.iload_n 2, 1) := by decide +kernel
theorem dX50_states_11 : decode cX50_states 11 = .ok (.ifCond .lt 8, 3) := by decide +kernel
theorem dX50_states_14 : decode cX50_states 14 = .ok (.iload_n 2, 1) := by decide +kernel
theorem dX50_states_15 : decode cX50_states 15 = .ok (.iconst 3, 1) := by decide +kernel
theorem dX50_states_16 : decode cX50_states 16 = .ok (.if_icmp .le 6, 3) := by decide +kernel
theorem dX50_states_19 : decode cX50_states 19 = .ok (.bipush (-2), 2) := by decide +kernel
theorem dX50_states_21 : decode cX50_states 21 = .ok (.ireturn, 1) := by decide +kernel
theorem dX50_states_22 : decode cX50_states 22 = .ok (.aload_n 0, 1) := by decide +kernel
theorem dX50_states_23 : decode cX50_states 23 = .ok (.iload_n 1, 1) := by decide +kernel
theorem dX50_states_24 : decode cX50_states 24 = .ok (.invokevirtual 215, 3) := by decide +kernel
theorem dX50_states_27 : decode cX50_states 27 = .ok (.aload_n 0, 1) := by decide +kernel
theorem dX50_states_28 : decode cX50_states 28 = .ok (.getfield 140, 3) := by decide +kernel
theorem dX50_states_31 : decode cX50_states 31 = .ok (.iconst 4, 1) := by decide +kernel
theorem dX50_states_32 : decode cX50_states 32 = .ok (.iload_n 1, 1) := by decide +kernel
theorem dX50_states_33 : decode cX50_states 33 = .ok (.imul, 1) := by decide +kernel
theorem dX50_states_34 : decode cX50_states 34 = .ok (.iload_n 2, 1) := by decide +kernel
theorem dX50_states_35 : decode cX50_states 35 = .ok (.iadd, 1) := by decide +kernel
theorem dX50_states_36 : decode cX50_states 36 = .ok (.iaload, 1) := by decide +kernel
theorem dX50_states_37 : decode cX50_states 37 = .ok (.ireturn, 1) := by decide +kernel
abbrev cX50_sentence : ByteArray := prog_85_method_33_code
def yX50_sentence : MethodName := ⟨RX50, "sentence", "(I)I"⟩
theorem dX50_sentence_0 : decode cX50_sentence 0 = .ok (.aload_n 0, 1) := by decide +kernel
theorem dX50_sentence_1 : decode cX50_sentence 1 = .ok (.iload_n 1, 1) := by decide +kernel
theorem dX50_sentence_2 : decode cX50_sentence 2 = .ok (.invokevirtual 174, 3) := by decide +kernel
theorem dX50_sentence_5 : decode cX50_sentence 5 = .ok (.ifCond .ne 5, 3) := by decide +kernel
theorem dX50_sentence_8 : decode cX50_sentence 8 = .ok (.iconst (-1), 1) := by decide +kernel
theorem dX50_sentence_9 : decode cX50_sentence 9 = .ok (.ireturn, 1) := by decide +kernel
theorem dX50_sentence_10 : decode cX50_sentence 10 = .ok (.aload_n 0, 1) := by decide +kernel
theorem dX50_sentence_11 : decode cX50_sentence 11 = .ok (.iload_n 1, 1) := by decide +kernel
theorem dX50_sentence_12 : decode cX50_sentence 12 = .ok (.invokevirtual 215, 3) := by decide +kernel
theorem dX50_sentence_15 : decode cX50_sentence 15 = .ok (.aload_n 0, 1) := by decide +kernel
theorem dX50_sentence_16 : decode cX50_sentence 16 = .ok (.iconst 0, 1) := by decide +kernel
theorem dX50_sentence_17 : decode cX50_sentence 17 = .ok (.putfield 229, 3) := by decide +kernel
theorem dX50_sentence_20 : decode cX50_sentence 20 = .ok (.aload_n 0, 1) := by decide +kernel
theorem dX50_sentence_21 : decode cX50_sentence 21 = .ok (.iload_n 1, 1) := by decide +kernel
theorem dX50_sentence_22 : decode cX50_sentence 22 = .ok (.invokevirtual 235, 3) := by decide +kernel
theorem dX50_sentence_25 : decode cX50_sentence 25 = .ok (.aload_n 0, 1) := by decide +kernel
theorem dX50_sentence_26 : decode cX50_sentence 26 = .ok (.bipush 36, 2) := by decide +kernel
theorem dX50_sentence_28 : decode cX50_sentence 28 = .ok (.invokevirtual 232, 3) := by decide +kernel
theorem dX50_sentence_31 : decode cX50_sentence 31 = .ok (.aload_n 0, 1) := by decide +kernel
theorem dX50_sentence_32 : decode cX50_sentence 32 = .ok (.aload_n 0, 1) := by decide +kernel
theorem dX50_sentence_33 : decode cX50_sentence 33 = .ok (.getfield 140, 3) := by decide +kernel
theorem dX50_sentence_36 : decode cX50_sentence 36 = .ok (.iconst 4, 1) := by decide +kernel
theorem dX50_sentence_37 : decode cX50_sentence 37 = .ok (.iload_n 1, 1) := by decide +kernel
theorem dX50_sentence_38 : decode cX50_sentence 38 = .ok (.imul, 1) := by decide +kernel
theorem dX50_sentence_39 : decode cX50_sentence 39 = .ok (.iaload, 1) := by decide +kernel
theorem dX50_sentence_40 : decode cX50_sentence 40 = .ok (.aload_n 0, 1) := by decide +kernel
theorem dX50_sentence_41 : decode cX50_sentence 41 = .ok (.getfield 140, 3) := by decide +kernel
theorem dX50_sentence_44 : decode cX50_sentence 44 = .ok (.iconst 4, 1) := by decide +kernel
theorem dX50_sentence_45 : decode cX50_sentence 45 = .ok (.iload_n 1, 1) := by decide +kernel
theorem dX50_sentence_46 : decode cX50_sentence 46 = .ok (.imul, 1) := by decide +kernel
theorem dX50_sentence_47 : decode cX50_sentence 47 = .ok (.iconst 1, 1) := by decide +kernel
theorem dX50_sentence_48 : decode cX50_sentence 48 = .ok (.iadd, 1) := by decide +kernel
theorem dX50_sentence_49 : decode cX50_sentence 49 = .ok (.iaload, 1) := by decide +kernel
theorem dX50_sentence_50 : decode cX50_sentence 50 = .ok (.aload_n 0, 1) := by decide +kernel
theorem dX50_sentence_51 : decode cX50_sentence 51 = .ok (.getfield 140, 3) := by decide +kernel
theorem dX50_sentence_54 : decode cX50_sentence 54 = .ok (.iconst 4, 1) := by decide +kernel
theorem dX50_sentence_55 : decode cX50_sentence 55 = .ok (.iload_n 1, 1) := by decide +kernel
theorem dX50_sentence_56 : decode cX50_sentence 56 = .ok (.imul, 1) := by decide +kernel
theorem dX50_sentence_57 : decode cX50_sentence 57 = .ok (.iconst 2, 1) := by decide +kernel
theorem dX50_sentence_58 : decode cX50_sentence 58 = .ok (.iadd, 1) := by decide +kernel
theorem dX50_sentence_59 : decode cX50_sentence 59 = .ok (.iaload, 1) := by decide +kernel
theorem dX50_sentence_60 : decode cX50_sentence 60 = .ok (.aload_n 0, 1) := by decide +kernel
theorem dX50_sentence_61 : decode cX50_sentence 61 = .ok (.getfield 140, 3) := by decide +kernel
theorem dX50_sentence_64 : decode cX50_sentence 64 = .ok (.iconst 4, 1) := by decide +kernel
theorem dX50_sentence_65 : decode cX50_sentence 65 = .ok (.iload_n 1, 1) := by decide +kernel
theorem dX50_sentence_66 : decode cX50_sentence 66 = .ok (.imul, 1) := by decide +kernel
theorem dX50_sentence_67 : decode cX50_sentence 67 = .ok (.iconst 3, 1) := by decide +kernel
theorem dX50_sentence_68 : decode cX50_sentence 68 = .ok (.iadd, 1) := by decide +kernel
theorem dX50_sentence_69 : decode cX50_sentence 69 = .ok (.iaload, 1) := by decide +kernel
theorem dX50_sentence_70 : decode cX50_sentence 70 = .ok (.invokevirtual 238, 3) := by decide +kernel
theorem dX50_sentence_73 : decode cX50_sentence 73 = .ok (.aload_n 0, 1) := by decide +kernel
theorem dX50_sentence_74 : decode cX50_sentence 74 = .ok (.bipush 37, 2) := by decide +kernel
theorem dX50_sentence_76 : decode cX50_sentence 76 = .ok (.invokevirtual 232, 3) := by decide +kernel
theorem dX50_sentence_79 : decode cX50_sentence 79 = .ok (.aload_n 0, 1) := by decide +kernel
theorem dX50_sentence_80 : decode cX50_sentence 80 = .ok (.aload_n 0, 1) := by decide +kernel
theorem dX50_sentence_81 : decode cX50_sentence 81 = .ok (.getfield 128, 3) := by decide +kernel
theorem dX50_sentence_84 : decode cX50_sentence 84 = .ok (.iload_n 1, 1) := by decide +kernel
theorem dX50_sentence_85 : decode cX50_sentence 85 = .ok (.iaload, 1) := by decide +kernel
theorem dX50_sentence_86 : decode cX50_sentence 86 = .ok (.invokestatic 241, 3) := by decide +kernel
theorem dX50_sentence_89 : decode cX50_sentence 89 = .ok (.invokevirtual 232, 3) := by decide +kernel
theorem dX50_sentence_92 : decode cX50_sentence 92 = .ok (.iconst 0, 1) := by decide +kernel
theorem dX50_sentence_93 : decode cX50_sentence 93 = .ok (.istore_n 2, 1) := by decide +kernel
theorem dX50_sentence_94 : decode cX50_sentence 94 = .ok (.iload_n 2, 1) := by decide +kernel
theorem dX50_sentence_95 : decode cX50_sentence 95 = .ok (.aload_n 0, 1) := by decide +kernel
theorem dX50_sentence_96 : decode cX50_sentence 96 = .ok (.getfield 134, 3) := by decide +kernel
theorem dX50_sentence_99 : decode cX50_sentence 99 = .ok (.iload_n 1, 1) := by decide +kernel
theorem dX50_sentence_100 : decode cX50_sentence 100 = .ok (.iaload, 1) := by decide +kernel
theorem dX50_sentence_101 : decode cX50_sentence 101 = .ok (.if_icmp .ge 38, 3) := by decide +kernel
theorem dX50_sentence_104 : decode cX50_sentence 104 = .ok (.aload_n 0, 1) := by decide +kernel
theorem dX50_sentence_105 : decode cX50_sentence 105 = .ok (.iload_n 2, 1) := by decide +kernel
theorem dX50_sentence_106 : decode cX50_sentence 106 = .ok (.ifCond .ne 8, 3) := by decide +kernel
theorem dX50_sentence_109 : decode cX50_sentence 109 = .ok (.bipush 38, 2) := by decide +kernel
theorem dX50_sentence_111 : decode cX50_sentence 111 = .ok (.goto 5, 3) := by decide +kernel
theorem dX50_sentence_114 : decode cX50_sentence 114 = .ok (.bipush 39, 2) := by decide +kernel
theorem dX50_sentence_116 : decode cX50_sentence 116 = .ok (.invokevirtual 232, 3) := by decide +kernel
theorem dX50_sentence_119 : decode cX50_sentence 119 = .ok (.aload_n 0, 1) := by decide +kernel
theorem dX50_sentence_120 : decode cX50_sentence 120 = .ok (.aload_n 0, 1) := by decide +kernel
theorem dX50_sentence_121 : decode cX50_sentence 121 = .ok (.getfield 137, 3) := by decide +kernel
theorem dX50_sentence_124 : decode cX50_sentence 124 = .ok (.iconst 3, 1) := by decide +kernel
theorem dX50_sentence_125 : decode cX50_sentence 125 = .ok (.iload_n 1, 1) := by decide +kernel
theorem dX50_sentence_126 : decode cX50_sentence 126 = .ok (.imul, 1) := by decide +kernel
theorem dX50_sentence_127 : decode cX50_sentence 127 = .ok (.iload_n 2, 1) := by decide +kernel
theorem dX50_sentence_128 : decode cX50_sentence 128 = .ok (.iadd, 1) := by decide +kernel
theorem dX50_sentence_129 : decode cX50_sentence 129 = .ok (.iaload, 1) := by decide +kernel
theorem dX50_sentence_130 : decode cX50_sentence 130 = .ok (.invokevirtual 235, 3) := by decide +kernel
theorem dX50_sentence_133 : decode cX50_sentence 133 = .ok (.iinc 2 1, 3) := by decide +kernel
theorem dX50_sentence_136 : decode cX50_sentence 136 = .ok (.goto (-42), 3) := by decide +kernel
theorem dX50_sentence_139 : decode cX50_sentence 139 = .ok (.aload_n 0, 1) := by decide +kernel
theorem dX50_sentence_140 : decode cX50_sentence 140 = .ok (.bipush 40, 2) := by decide +kernel
theorem dX50_sentence_142 : decode cX50_sentence 142 = .ok (.invokevirtual 232, 3) := by decide +kernel
theorem dX50_sentence_145 : decode cX50_sentence 145 = .ok (.aload_n 0, 1) := by decide +kernel
theorem dX50_sentence_146 : decode cX50_sentence 146 = .ok (.getfield 229, 3) := by decide +kernel
theorem dX50_sentence_149 : decode cX50_sentence 149 = .ok (.ireturn, 1) := by decide +kernel
abbrev cX50_number : ByteArray := prog_85_method_30_code
def yX50_number : MethodName := ⟨RX50, "number", "(I)V"⟩
theorem dX50_number_0 : decode cX50_number 0 = .ok (.iconst 1, 1) := by decide +kernel
theorem dX50_number_1 : decode cX50_number 1 = .ok (.istore_n 2, 1) := by decide +kernel
theorem dX50_number_2 : decode cX50_number 2 = .ok (.iload_n 1, 1) := by decide +kernel
theorem dX50_number_3 : decode cX50_number 3 = .ok (.iload_n 2, 1) := by decide +kernel
theorem dX50_number_4 : decode cX50_number 4 = .ok (.idiv, 1) := by decide +kernel
theorem dX50_number_5 : decode cX50_number 5 = .ok (.bipush 9, 2) := by decide +kernel
theorem dX50_number_7 : decode cX50_number 7 = .ok (.if_icmp .le 11, 3) := by decide +kernel
theorem dX50_number_10 : decode cX50_number 10 = .ok (.iload_n 2, 1) := by decide +kernel
theorem dX50_number_11 : decode cX50_number 11 = .ok (.bipush 10, 2) := by decide +kernel
theorem dX50_number_13 : decode cX50_number 13 = .ok (.imul, 1) := by decide +kernel
theorem dX50_number_14 : decode cX50_number 14 = .ok (.istore_n 2, 1) := by decide +kernel
theorem dX50_number_15 : decode cX50_number 15 = .ok (.goto (-13), 3) := by decide +kernel
theorem dX50_number_18 : decode cX50_number 18 = .ok (.iload_n 2, 1) := by decide +kernel
theorem dX50_number_19 : decode cX50_number 19 = .ok (.istore_n 3, 1) := by decide +kernel
theorem dX50_number_20 : decode cX50_number 20 = .ok (.iload_n 3, 1) := by decide +kernel
theorem dX50_number_21 : decode cX50_number 21 = .ok (.ifCond .le 39, 3) := by decide +kernel
theorem dX50_number_24 : decode cX50_number 24 = .ok (.aload_n 0, 1) := by decide +kernel
theorem dX50_number_25 : decode cX50_number 25 = .ok (.getfield 147, 3) := by decide +kernel
theorem dX50_number_28 : decode cX50_number 28 = .ok (.aload_n 0, 1) := by decide +kernel
theorem dX50_number_29 : decode cX50_number 29 = .ok (.getfield 229, 3) := by decide +kernel
theorem dX50_number_32 : decode cX50_number 32 = .ok (.bipush 48, 2) := by decide +kernel
theorem dX50_number_34 : decode cX50_number 34 = .ok (.iload_n 1, 1) := by decide +kernel
theorem dX50_number_35 : decode cX50_number 35 = .ok (.iload_n 3, 1) := by decide +kernel
theorem dX50_number_36 : decode cX50_number 36 = .ok (.idiv, 1) := by decide +kernel
theorem dX50_number_37 : decode cX50_number 37 = .ok (.bipush 10, 2) := by decide +kernel
theorem dX50_number_39 : decode cX50_number 39 = .ok (.irem, 1) := by decide +kernel
theorem dX50_number_40 : decode cX50_number 40 = .ok (.iadd, 1) := by decide +kernel
theorem dX50_number_41 : decode cX50_number 41 = .ok (.iastore, 1) := by decide +kernel
theorem dX50_number_42 : decode cX50_number 42 = .ok (.aload_n 0, 1) := by decide +kernel
theorem dX50_number_43 : decode cX50_number 43 = .ok (.dup, 1) := by decide +kernel
theorem dX50_number_44 : decode cX50_number 44 = .ok (.getfield 229, 3) := by decide +kernel
theorem dX50_number_47 : decode cX50_number 47 = .ok (.iconst 1, 1) := by decide +kernel
theorem dX50_number_48 : decode cX50_number 48 = .ok (.iadd, 1) := by decide +kernel
theorem dX50_number_49 : decode cX50_number 49 = .ok (.putfield 229, 3) := by decide +kernel
theorem dX50_number_52 : decode cX50_number 52 = .ok (.iload_n 3, 1) := by decide +kernel
theorem dX50_number_53 : decode cX50_number 53 = .ok (.bipush 10, 2) := by decide +kernel
theorem dX50_number_55 : decode cX50_number 55 = .ok (.idiv, 1) := by decide +kernel
theorem dX50_number_56 : decode cX50_number 56 = .ok (.istore_n 3, 1) := by decide +kernel
theorem dX50_number_57 : decode cX50_number 57 = .ok (.goto (-37), 3) := by decide +kernel
theorem dX50_number_60 : decode cX50_number 60 = .ok (.return_, 1) := by decide +kernel
abbrev cX50_put : ByteArray := prog_85_method_29_code
def yX50_put : MethodName := ⟨RX50, "put", "(I)V"⟩
theorem dX50_put_0 : decode cX50_put 0 = .ok (.iconst 0, 1) := by decide +kernel
theorem dX50_put_1 : decode cX50_put 1 = .ok (.istore_n 2, 1) := by decide +kernel
theorem dX50_put_2 : decode cX50_put 2 = .ok (.iconst 0, 1) := by decide +kernel
theorem dX50_put_3 : decode cX50_put 3 = .ok (.istore_n 3, 1) := by decide +kernel
theorem dX50_put_4 : decode cX50_put 4 = .ok (.iload_n 3, 1) := by decide +kernel
theorem dX50_put_5 : decode cX50_put 5 = .ok (.iload_n 1, 1) := by decide +kernel
theorem dX50_put_6 : decode cX50_put 6 = .ok (.if_icmp .ge 29, 3) := by decide +kernel
theorem dX50_put_9 : decode cX50_put 9 = .ok (.aload_n 0, 1) := by decide +kernel
theorem dX50_put_10 : decode cX50_put 10 = .ok (.getfield 115, 3) := by decide +kernel
theorem dX50_put_13 : decode cX50_put 13 = .ok (.iload_n 2, 1) := by decide +kernel
theorem dX50_put_14 : decode cX50_put 14 = .ok (.laload, 1) := by decide +kernel
theorem dX50_put_15 : decode cX50_put 15 = .ok (.lconst 0, 1) := by decide +kernel
theorem dX50_put_16 : decode cX50_put 16 = .ok (.lcmp, 1) := by decide +kernel
theorem dX50_put_17 : decode cX50_put 17 = .ok (.ifCond .eq 9, 3) := by decide +kernel
theorem dX50_put_20 : decode cX50_put 20 = .ok (.iinc 2 1, 3) := by decide +kernel
theorem dX50_put_23 : decode cX50_put 23 = .ok (.goto (-14), 3) := by decide +kernel
theorem dX50_put_26 : decode cX50_put 26 = .ok (.iinc 2 1, 3) := by decide +kernel
theorem dX50_put_29 : decode cX50_put 29 = .ok (.iinc 3 1, 3) := by decide +kernel
theorem dX50_put_32 : decode cX50_put 32 = .ok (.goto (-28), 3) := by decide +kernel
theorem dX50_put_35 : decode cX50_put 35 = .ok (.aload_n 0, 1) := by decide +kernel
theorem dX50_put_36 : decode cX50_put 36 = .ok (.getfield 115, 3) := by decide +kernel
theorem dX50_put_39 : decode cX50_put 39 = .ok (.iload_n 2, 1) := by decide +kernel
theorem dX50_put_40 : decode cX50_put 40 = .ok (.laload, 1) := by decide +kernel
theorem dX50_put_41 : decode cX50_put 41 = .ok (.lconst 0, 1) := by decide +kernel
theorem dX50_put_42 : decode cX50_put 42 = .ok (.lcmp, 1) := by decide +kernel
theorem dX50_put_43 : decode cX50_put 43 = .ok (.ifCond .eq 66, 3) := by decide +kernel
theorem dX50_put_46 : decode cX50_put 46 = .ok (.bipush 56, 2) := by decide +kernel
theorem dX50_put_48 : decode cX50_put 48 = .ok (.istore_n 3, 1) := by decide +kernel
theorem dX50_put_49 : decode cX50_put 49 = .ok (.iload_n 3, 1) := by decide +kernel
theorem dX50_put_50 : decode cX50_put 50 = .ok (.ifCond .lt 53, 3) := by decide +kernel
theorem dX50_put_53 : decode cX50_put 53 = .ok (.aload_n 0, 1) := by decide +kernel
theorem dX50_put_54 : decode cX50_put 54 = .ok (.getfield 115, 3) := by decide +kernel
theorem dX50_put_57 : decode cX50_put 57 = .ok (.iload_n 2, 1) := by decide +kernel
theorem dX50_put_58 : decode cX50_put 58 = .ok (.laload, 1) := by decide +kernel
theorem dX50_put_59 : decode cX50_put 59 = .ok (.iload_n 3, 1) := by decide +kernel
theorem dX50_put_60 : decode cX50_put 60 = .ok (.lshr, 1) := by decide +kernel
theorem dX50_put_61 : decode cX50_put 61 = .ok (.ldc2_w 227, 3) := by decide +kernel
theorem dX50_put_64 : decode cX50_put 64 = .ok (.land, 1) := by decide +kernel
theorem dX50_put_65 : decode cX50_put 65 = .ok (.l2i, 1) := by decide +kernel
theorem dX50_put_66 : decode cX50_put 66 = .ok (.istore 4, 2) := by decide +kernel
theorem dX50_put_68 : decode cX50_put 68 = .ok (.iload 4, 2) := by decide +kernel
theorem dX50_put_70 : decode cX50_put 70 = .ok (.ifCond .ne 6, 3) := by decide +kernel
theorem dX50_put_73 : decode cX50_put 73 = .ok (.goto 24, 3) := by decide +kernel
theorem dX50_put_76 : decode cX50_put 76 = .ok (.aload_n 0, 1) := by decide +kernel
theorem dX50_put_77 : decode cX50_put 77 = .ok (.getfield 147, 3) := by decide +kernel
theorem dX50_put_80 : decode cX50_put 80 = .ok (.aload_n 0, 1) := by decide +kernel
theorem dX50_put_81 : decode cX50_put 81 = .ok (.getfield 229, 3) := by decide +kernel
theorem dX50_put_84 : decode cX50_put 84 = .ok (.iload 4, 2) := by decide +kernel
theorem dX50_put_86 : decode cX50_put 86 = .ok (.iastore, 1) := by decide +kernel
theorem dX50_put_87 : decode cX50_put 87 = .ok (.aload_n 0, 1) := by decide +kernel
theorem dX50_put_88 : decode cX50_put 88 = .ok (.dup, 1) := by decide +kernel
theorem dX50_put_89 : decode cX50_put 89 = .ok (.getfield 229, 3) := by decide +kernel
theorem dX50_put_92 : decode cX50_put 92 = .ok (.iconst 1, 1) := by decide +kernel
theorem dX50_put_93 : decode cX50_put 93 = .ok (.iadd, 1) := by decide +kernel
theorem dX50_put_94 : decode cX50_put 94 = .ok (.putfield 229, 3) := by decide +kernel
theorem dX50_put_97 : decode cX50_put 97 = .ok (.iinc 3 (-8), 3) := by decide +kernel
theorem dX50_put_100 : decode cX50_put 100 = .ok (.goto (-51), 3) := by decide +kernel
theorem dX50_put_103 : decode cX50_put 103 = .ok (.iinc 2 1, 3) := by decide +kernel
theorem dX50_put_106 : decode cX50_put 106 = .ok (.goto (-71), 3) := by decide +kernel
theorem dX50_put_109 : decode cX50_put 109 = .ok (.return_, 1) := by decide +kernel
abbrev cX50_statement : ByteArray := prog_85_method_32_code
def yX50_statement : MethodName := ⟨RX50, "statement", "(IIII)V"⟩
theorem dX50_statement_0 : decode cX50_statement 0 = .ok (.iload_n 1, 1) := by decide +kernel
theorem dX50_statement_1 : decode cX50_statement 1 = .ok (.bipush 12, 2) := by decide +kernel
theorem dX50_statement_3 : decode cX50_statement 3 = .ok (.if_icmp .eq 7, 3) := by decide +kernel
theorem dX50_statement_6 : decode cX50_statement 6 = .ok (.iload_n 1, 1) := by decide +kernel
theorem dX50_statement_7 : decode cX50_statement 7 = .ok (.ifCond .ne 19, 3) := by decide +kernel
theorem dX50_statement_10 : decode cX50_statement 10 = .ok (.aload_n 0, 1) := by decide +kernel
theorem dX50_statement_11 : decode cX50_statement 11 = .ok (.iload_n 1, 1) := by decide +kernel
theorem dX50_statement_12 : decode cX50_statement 12 = .ok (.ifCond .ne 8, 3) := by decide +kernel
theorem dX50_statement_15 : decode cX50_statement 15 = .ok (.bipush 18, 2) := by decide +kernel
theorem dX50_statement_17 : decode cX50_statement 17 = .ok (.goto 5, 3) := by decide +kernel
theorem dX50_statement_20 : decode cX50_statement 20 = .ok (.bipush 19, 2) := by decide +kernel
theorem dX50_statement_22 : decode cX50_statement 22 = .ok (.invokevirtual 232, 3) := by decide +kernel
theorem dX50_statement_25 : decode cX50_statement 25 = .ok (.return_, 1) := by decide +kernel
theorem dX50_statement_26 : decode cX50_statement 26 = .ok (.iload_n 1, 1) := by decide +kernel
theorem dX50_statement_27 : decode cX50_statement 27 = .ok (.iconst 1, 1) := by decide +kernel
theorem dX50_statement_28 : decode cX50_statement 28 = .ok (.if_icmp .eq 8, 3) := by decide +kernel
theorem dX50_statement_31 : decode cX50_statement 31 = .ok (.iload_n 1, 1) := by decide +kernel
theorem dX50_statement_32 : decode cX50_statement 32 = .ok (.iconst 5, 1) := by decide +kernel
theorem dX50_statement_33 : decode cX50_statement 33 = .ok (.if_icmp .ne 9, 3) := by decide +kernel
theorem dX50_statement_36 : decode cX50_statement 36 = .ok (.aload_n 0, 1) := by decide +kernel
theorem dX50_statement_37 : decode cX50_statement 37 = .ok (.bipush 20, 2) := by decide +kernel
theorem dX50_statement_39 : decode cX50_statement 39 = .ok (.invokevirtual 232, 3) := by decide +kernel
theorem dX50_statement_42 : decode cX50_statement 42 = .ok (.iload_n 1, 1) := by decide +kernel
theorem dX50_statement_43 : decode cX50_statement 43 = .ok (.iconst 3, 1) := by decide +kernel
theorem dX50_statement_44 : decode cX50_statement 44 = .ok (.if_icmp .eq 8, 3) := by decide +kernel
theorem dX50_statement_47 : decode cX50_statement 47 = .ok (.iload_n 1, 1) := by decide +kernel
theorem dX50_statement_48 : decode cX50_statement 48 = .ok (.iconst 4, 1) := by decide +kernel
theorem dX50_statement_49 : decode cX50_statement 49 = .ok (.if_icmp .ne 9, 3) := by decide +kernel
theorem dX50_statement_52 : decode cX50_statement 52 = .ok (.aload_n 0, 1) := by decide +kernel
theorem dX50_statement_53 : decode cX50_statement 53 = .ok (.bipush 21, 2) := by decide +kernel
theorem dX50_statement_55 : decode cX50_statement 55 = .ok (.invokevirtual 232, 3) := by decide +kernel
theorem dX50_statement_58 : decode cX50_statement 58 = .ok (.aload_n 0, 1) := by decide +kernel
theorem dX50_statement_59 : decode cX50_statement 59 = .ok (.iload_n 2, 1) := by decide +kernel
theorem dX50_statement_60 : decode cX50_statement 60 = .ok (.invokevirtual 235, 3) := by decide +kernel
theorem dX50_statement_63 : decode cX50_statement 63 = .ok (.iload_n 1, 1) := by decide +kernel
theorem dX50_statement_64 : decode cX50_statement 64 = .ok (.tableswitch 146 1 10 #[56, 65, 74, 83, 92, 101, 110, 119, 128, 137], 56) := by decide +kernel
theorem dX50_statement_120 : decode cX50_statement 120 = .ok (.aload_n 0, 1) := by decide +kernel
theorem dX50_statement_121 : decode cX50_statement 121 = .ok (.bipush 22, 2) := by decide +kernel
theorem dX50_statement_123 : decode cX50_statement 123 = .ok (.invokevirtual 232, 3) := by decide +kernel
theorem dX50_statement_126 : decode cX50_statement 126 = .ok (.goto 125, 3) := by decide +kernel
theorem dX50_statement_129 : decode cX50_statement 129 = .ok (.aload_n 0, 1) := by decide +kernel
theorem dX50_statement_130 : decode cX50_statement 130 = .ok (.bipush 23, 2) := by decide +kernel
theorem dX50_statement_132 : decode cX50_statement 132 = .ok (.invokevirtual 232, 3) := by decide +kernel
theorem dX50_statement_135 : decode cX50_statement 135 = .ok (.goto 116, 3) := by decide +kernel
theorem dX50_statement_138 : decode cX50_statement 138 = .ok (.aload_n 0, 1) := by decide +kernel
theorem dX50_statement_139 : decode cX50_statement 139 = .ok (.bipush 24, 2) := by decide +kernel
theorem dX50_statement_141 : decode cX50_statement 141 = .ok (.invokevirtual 232, 3) := by decide +kernel
theorem dX50_statement_144 : decode cX50_statement 144 = .ok (.goto 107, 3) := by decide +kernel
theorem dX50_statement_147 : decode cX50_statement 147 = .ok (.aload_n 0, 1) := by decide +kernel
theorem dX50_statement_148 : decode cX50_statement 148 = .ok (.bipush 25, 2) := by decide +kernel
theorem dX50_statement_150 : decode cX50_statement 150 = .ok (.invokevirtual 232, 3) := by decide +kernel
theorem dX50_statement_153 : decode cX50_statement 153 = .ok (.goto 98, 3) := by decide +kernel
theorem dX50_statement_156 : decode cX50_statement 156 = .ok (.aload_n 0, 1) := by decide +kernel
theorem dX50_statement_157 : decode cX50_statement 157 = .ok (.bipush 26, 2) := by decide +kernel
theorem dX50_statement_159 : decode cX50_statement 159 = .ok (.invokevirtual 232, 3) := by decide +kernel
theorem dX50_statement_162 : decode cX50_statement 162 = .ok (.goto 89, 3) := by decide +kernel
theorem dX50_statement_165 : decode cX50_statement 165 = .ok (.aload_n 0, 1) := by decide +kernel
theorem dX50_statement_166 : decode cX50_statement 166 = .ok (.bipush 27, 2) := by decide +kernel
theorem dX50_statement_168 : decode cX50_statement 168 = .ok (.invokevirtual 232, 3) := by decide +kernel
theorem dX50_statement_171 : decode cX50_statement 171 = .ok (.goto 80, 3) := by decide +kernel
theorem dX50_statement_174 : decode cX50_statement 174 = .ok (.aload_n 0, 1) := by decide +kernel
theorem dX50_statement_175 : decode cX50_statement 175 = .ok (.bipush 28, 2) := by decide +kernel
theorem dX50_statement_177 : decode cX50_statement 177 = .ok (.invokevirtual 232, 3) := by decide +kernel
theorem dX50_statement_180 : decode cX50_statement 180 = .ok (.goto 71, 3) := by decide +kernel
theorem dX50_statement_183 : decode cX50_statement 183 = .ok (.aload_n 0, 1) := by decide +kernel
theorem dX50_statement_184 : decode cX50_statement 184 = .ok (.bipush 29, 2) := by decide +kernel
theorem dX50_statement_186 : decode cX50_statement 186 = .ok (.invokevirtual 232, 3) := by decide +kernel
theorem dX50_statement_189 : decode cX50_statement 189 = .ok (.goto 62, 3) := by decide +kernel
theorem dX50_statement_192 : decode cX50_statement 192 = .ok (.aload_n 0, 1) := by decide +kernel
theorem dX50_statement_193 : decode cX50_statement 193 = .ok (.bipush 30, 2) := by decide +kernel
theorem dX50_statement_195 : decode cX50_statement 195 = .ok (.invokevirtual 232, 3) := by decide +kernel
theorem dX50_statement_198 : decode cX50_statement 198 = .ok (.goto 53, 3) := by decide +kernel
theorem dX50_statement_201 : decode cX50_statement 201 = .ok (.aload_n 0, 1) := by decide +kernel
theorem dX50_statement_202 : decode cX50_statement 202 = .ok (.bipush 31, 2) := by decide +kernel
theorem dX50_statement_204 : decode cX50_statement 204 = .ok (.invokevirtual 232, 3) := by decide +kernel
theorem dX50_statement_207 : decode cX50_statement 207 = .ok (.goto 44, 3) := by decide +kernel
theorem dX50_statement_210 : decode cX50_statement 210 = .ok (.aload_n 0, 1) := by decide +kernel
theorem dX50_statement_211 : decode cX50_statement 211 = .ok (.iload_n 3, 1) := by decide +kernel
theorem dX50_statement_212 : decode cX50_statement 212 = .ok (.ifCond .ne 8, 3) := by decide +kernel
theorem dX50_statement_215 : decode cX50_statement 215 = .ok (.bipush 32, 2) := by decide +kernel
theorem dX50_statement_217 : decode cX50_statement 217 = .ok (.goto 15, 3) := by decide +kernel
theorem dX50_statement_220 : decode cX50_statement 220 = .ok (.iload_n 3, 1) := by decide +kernel
theorem dX50_statement_221 : decode cX50_statement 221 = .ok (.iconst 1, 1) := by decide +kernel
theorem dX50_statement_222 : decode cX50_statement 222 = .ok (.if_icmp .ne 8, 3) := by decide +kernel
theorem dX50_statement_225 : decode cX50_statement 225 = .ok (.bipush 29, 2) := by decide +kernel
theorem dX50_statement_227 : decode cX50_statement 227 = .ok (.goto 5, 3) := by decide +kernel
theorem dX50_statement_230 : decode cX50_statement 230 = .ok (.bipush 33, 2) := by decide +kernel
theorem dX50_statement_232 : decode cX50_statement 232 = .ok (.invokevirtual 232, 3) := by decide +kernel
theorem dX50_statement_235 : decode cX50_statement 235 = .ok (.iload_n 3, 1) := by decide +kernel
theorem dX50_statement_236 : decode cX50_statement 236 = .ok (.iconst 1, 1) := by decide +kernel
theorem dX50_statement_237 : decode cX50_statement 237 = .ok (.if_icmp .le 14, 3) := by decide +kernel
theorem dX50_statement_240 : decode cX50_statement 240 = .ok (.aload_n 0, 1) := by decide +kernel
theorem dX50_statement_241 : decode cX50_statement 241 = .ok (.iload_n 3, 1) := by decide +kernel
theorem dX50_statement_242 : decode cX50_statement 242 = .ok (.invokevirtual 235, 3) := by decide +kernel
theorem dX50_statement_245 : decode cX50_statement 245 = .ok (.aload_n 0, 1) := by decide +kernel
theorem dX50_statement_246 : decode cX50_statement 246 = .ok (.bipush 33, 2) := by decide +kernel
theorem dX50_statement_248 : decode cX50_statement 248 = .ok (.invokevirtual 232, 3) := by decide +kernel
theorem dX50_statement_251 : decode cX50_statement 251 = .ok (.iload_n 1, 1) := by decide +kernel
theorem dX50_statement_252 : decode cX50_statement 252 = .ok (.bipush 6, 2) := by decide +kernel
theorem dX50_statement_254 : decode cX50_statement 254 = .ok (.if_icmp .eq 15, 3) := by decide +kernel
theorem dX50_statement_257 : decode cX50_statement 257 = .ok (.iload_n 1, 1) := by decide +kernel
theorem dX50_statement_258 : decode cX50_statement 258 = .ok (.bipush 7, 2) := by decide +kernel
theorem dX50_statement_260 : decode cX50_statement 260 = .ok (.if_icmp .eq 9, 3) := by decide +kernel
theorem dX50_statement_263 : decode cX50_statement 263 = .ok (.iload_n 1, 1) := by decide +kernel
theorem dX50_statement_264 : decode cX50_statement 264 = .ok (.bipush 9, 2) := by decide +kernel
theorem dX50_statement_266 : decode cX50_statement 266 = .ok (.if_icmp .ne 4, 3) := by decide +kernel
theorem dX50_statement_269 : decode cX50_statement 269 = .ok (.return_, 1) := by decide +kernel
theorem dX50_statement_270 : decode cX50_statement 270 = .ok (.aload_n 0, 1) := by decide +kernel
theorem dX50_statement_271 : decode cX50_statement 271 = .ok (.iload_n 1, 1) := by decide +kernel
theorem dX50_statement_272 : decode cX50_statement 272 = .ok (.bipush 11, 2) := by decide +kernel
theorem dX50_statement_274 : decode cX50_statement 274 = .ok (.if_icmp .ne 8, 3) := by decide +kernel
theorem dX50_statement_277 : decode cX50_statement 277 = .ok (.iload 4, 2) := by decide +kernel
theorem dX50_statement_279 : decode cX50_statement 279 = .ok (.goto 4, 3) := by decide +kernel
theorem dX50_statement_282 : decode cX50_statement 282 = .ok (.iload_n 3, 1) := by decide +kernel
theorem dX50_statement_283 : decode cX50_statement 283 = .ok (.invokevirtual 235, 3) := by decide +kernel
theorem dX50_statement_286 : decode cX50_statement 286 = .ok (.iload_n 1, 1) := by decide +kernel
theorem dX50_statement_287 : decode cX50_statement 287 = .ok (.iconst 5, 1) := by decide +kernel
theorem dX50_statement_288 : decode cX50_statement 288 = .ok (.if_icmp .ne 9, 3) := by decide +kernel
theorem dX50_statement_291 : decode cX50_statement 291 = .ok (.aload_n 0, 1) := by decide +kernel
theorem dX50_statement_292 : decode cX50_statement 292 = .ok (.bipush 34, 2) := by decide +kernel
theorem dX50_statement_294 : decode cX50_statement 294 = .ok (.invokevirtual 232, 3) := by decide +kernel
theorem dX50_statement_297 : decode cX50_statement 297 = .ok (.iload_n 1, 1) := by decide +kernel
theorem dX50_statement_298 : decode cX50_statement 298 = .ok (.bipush 8, 2) := by decide +kernel
theorem dX50_statement_300 : decode cX50_statement 300 = .ok (.if_icmp .ne 9, 3) := by decide +kernel
theorem dX50_statement_303 : decode cX50_statement 303 = .ok (.aload_n 0, 1) := by decide +kernel
theorem dX50_statement_304 : decode cX50_statement 304 = .ok (.bipush 35, 2) := by decide +kernel
theorem dX50_statement_306 : decode cX50_statement 306 = .ok (.invokevirtual 232, 3) := by decide +kernel
theorem dX50_statement_309 : decode cX50_statement 309 = .ok (.return_, 1) := by decide +kernel
abbrev cX50_wordOf : ByteArray := prog_85_method_31_code
def yX50_wordOf : MethodName := ⟨RX50, "wordOf", "(I)I"⟩
theorem dX50_wordOf_0 : decode cX50_wordOf 0 = .ok (.iload_n 0, 1) := by decide +kernel
theorem dX50_wordOf_1 : decode cX50_wordOf 1 = .ok (.tableswitch 128 0 16 #[83, 85, 87, 89, 91, 93, 95, 98, 101, 104, 107, 110, 113, 116, 119, 122, 125], 83) := by decide +kernel
theorem dX50_wordOf_84 : decode cX50_wordOf 84 = .ok (.iconst 0, 1) := by decide +kernel
theorem dX50_wordOf_85 : decode cX50_wordOf 85 = .ok (.ireturn, 1) := by decide +kernel
theorem dX50_wordOf_86 : decode cX50_wordOf 86 = .ok (.iconst 1, 1) := by decide +kernel
theorem dX50_wordOf_87 : decode cX50_wordOf 87 = .ok (.ireturn, 1) := by decide +kernel
theorem dX50_wordOf_88 : decode cX50_wordOf 88 = .ok (.iconst 2, 1) := by decide +kernel
theorem dX50_wordOf_89 : decode cX50_wordOf 89 = .ok (.ireturn, 1) := by decide +kernel
theorem dX50_wordOf_90 : decode cX50_wordOf 90 = .ok (.iconst 3, 1) := by decide +kernel
theorem dX50_wordOf_91 : decode cX50_wordOf 91 = .ok (.ireturn, 1) := by decide +kernel
theorem dX50_wordOf_92 : decode cX50_wordOf 92 = .ok (.iconst 4, 1) := by decide +kernel
theorem dX50_wordOf_93 : decode cX50_wordOf 93 = .ok (.ireturn, 1) := by decide +kernel
theorem dX50_wordOf_94 : decode cX50_wordOf 94 = .ok (.iconst 5, 1) := by decide +kernel
theorem dX50_wordOf_95 : decode cX50_wordOf 95 = .ok (.ireturn, 1) := by decide +kernel
theorem dX50_wordOf_96 : decode cX50_wordOf 96 = .ok (.bipush 6, 2) := by decide +kernel
theorem dX50_wordOf_98 : decode cX50_wordOf 98 = .ok (.ireturn, 1) := by decide +kernel
theorem dX50_wordOf_99 : decode cX50_wordOf 99 = .ok (.bipush 7, 2) := by decide +kernel
theorem dX50_wordOf_101 : decode cX50_wordOf 101 = .ok (.ireturn, 1) := by decide +kernel
theorem dX50_wordOf_102 : decode cX50_wordOf 102 = .ok (.bipush 8, 2) := by decide +kernel
theorem dX50_wordOf_104 : decode cX50_wordOf 104 = .ok (.ireturn, 1) := by decide +kernel
theorem dX50_wordOf_105 : decode cX50_wordOf 105 = .ok (.bipush 9, 2) := by decide +kernel
theorem dX50_wordOf_107 : decode cX50_wordOf 107 = .ok (.ireturn, 1) := by decide +kernel
theorem dX50_wordOf_108 : decode cX50_wordOf 108 = .ok (.bipush 10, 2) := by decide +kernel
theorem dX50_wordOf_110 : decode cX50_wordOf 110 = .ok (.ireturn, 1) := by decide +kernel
theorem dX50_wordOf_111 : decode cX50_wordOf 111 = .ok (.bipush 11, 2) := by decide +kernel
theorem dX50_wordOf_113 : decode cX50_wordOf 113 = .ok (.ireturn, 1) := by decide +kernel
theorem dX50_wordOf_114 : decode cX50_wordOf 114 = .ok (.bipush 12, 2) := by decide +kernel
theorem dX50_wordOf_116 : decode cX50_wordOf 116 = .ok (.ireturn, 1) := by decide +kernel
theorem dX50_wordOf_117 : decode cX50_wordOf 117 = .ok (.bipush 13, 2) := by decide +kernel
theorem dX50_wordOf_119 : decode cX50_wordOf 119 = .ok (.ireturn, 1) := by decide +kernel
theorem dX50_wordOf_120 : decode cX50_wordOf 120 = .ok (.bipush 14, 2) := by decide +kernel
theorem dX50_wordOf_122 : decode cX50_wordOf 122 = .ok (.ireturn, 1) := by decide +kernel
theorem dX50_wordOf_123 : decode cX50_wordOf 123 = .ok (.bipush 15, 2) := by decide +kernel
theorem dX50_wordOf_125 : decode cX50_wordOf 125 = .ok (.ireturn, 1) := by decide +kernel
theorem dX50_wordOf_126 : decode cX50_wordOf 126 = .ok (.bipush 16, 2) := by decide +kernel
theorem dX50_wordOf_128 : decode cX50_wordOf 128 = .ok (.ireturn, 1) := by decide +kernel
theorem dX50_wordOf_129 : decode cX50_wordOf 129 = .ok (.bipush 17, 2) := by decide +kernel
theorem dX50_wordOf_131 : decode cX50_wordOf 131 = .ok (.ireturn, 1) := by decide +kernel
abbrev cX50_at : ByteArray := prog_85_method_34_code
def yX50_at : MethodName := ⟨RX50, "at", "(I)I"⟩
theorem dX50_at_0 : decode cX50_at 0 = .ok (.iload_n 1, 1) := by decide +kernel
theorem dX50_at_1 : decode cX50_at 1 = .ok (.ifCond .lt 20, 3) := by decide +kernel
theorem dX50_at_4 : decode cX50_at 4 = .ok (.iload_n 1, 1) := by decide +kernel
theorem dX50_at_5 : decode cX50_at 5 = .ok (.aload_n 0, 1) := by decide +kernel
theorem dX50_at_6 : decode cX50_at 6 = .ok (.getfield 229, 3) := by decide +kernel
theorem dX50_at_9 : decode cX50_at 9 = .ok (.if_icmp .ge 12, 3) := by decide +kernel
theorem dX50_at_12 : decode cX50_at 12 = .ok (.aload_n 0, 1) := by decide +kernel
theorem dX50_at_13 : decode cX50_at 13 = .ok (.getfield 147, 3) := by decide +kernel
theorem dX50_at_16 : decode cX50_at 16 = .ok (.iload_n 1, 1) := by decide +kernel
theorem dX50_at_17 : decode cX50_at 17 = .ok (.iaload, 1) := by decide +kernel
theorem dX50_at_18 : decode cX50_at 18 = .ok (.goto 5, 3) := by decide +kernel
theorem dX50_at_21 : decode cX50_at 21 = .ok (.bipush (-2), 2) := by decide +kernel
theorem dX50_at_23 : decode cX50_at 23 = .ok (.ireturn, 1) := by decide +kernel
abbrev cX50_concludes : ByteArray := prog_85_method_28_code
def yX50_concludes : MethodName := ⟨RX50, "concludes", "(II)Z"⟩
theorem dX50_concludes_0 : decode cX50_concludes 0 = .ok (.aload_n 0, 1) := by decide +kernel
theorem dX50_concludes_1 : decode cX50_concludes 1 = .ok (.iload_n 1, 1) := by decide +kernel
theorem dX50_concludes_2 : decode cX50_concludes 2 = .ok (.invokevirtual 174, 3) := by decide +kernel
theorem dX50_concludes_5 : decode cX50_concludes 5 = .ok (.ifCond .eq 16, 3) := by decide +kernel
theorem dX50_concludes_8 : decode cX50_concludes 8 = .ok (.iload_n 2, 1) := by decide +kernel
theorem dX50_concludes_9 : decode cX50_concludes 9 = .ok (.iconst 1, 1) := by decide +kernel
theorem dX50_concludes_10 : decode cX50_concludes 10 = .ok (.if_icmp .lt 11, 3) := by decide +kernel
theorem dX50_concludes_13 : decode cX50_concludes 13 = .ok (.iload_n 2, 1) := by decide +kernel
theorem dX50_concludes_14 : decode cX50_concludes 14 = .ok (.aload_n 0, 1) := by decide +kernel
theorem dX50_concludes_15 : decode cX50_concludes 15 = .ok (.getfield 164, 3) := by decide +kernel
theorem dX50_concludes_18 : decode cX50_concludes 18 = .ok (.if_icmp .le 5, 3) := by decide +kernel
theorem dX50_concludes_21 : decode cX50_concludes 21 = .ok (.iconst 0, 1) := by decide +kernel
theorem dX50_concludes_22 : decode cX50_concludes 22 = .ok (.ireturn, 1) := by decide +kernel
theorem dX50_concludes_23 : decode cX50_concludes 23 = .ok (.aload_n 0, 1) := by decide +kernel
theorem dX50_concludes_24 : decode cX50_concludes 24 = .ok (.iload_n 1, 1) := by decide +kernel
theorem dX50_concludes_25 : decode cX50_concludes 25 = .ok (.invokevirtual 215, 3) := by decide +kernel
theorem dX50_concludes_28 : decode cX50_concludes 28 = .ok (.iconst 1, 1) := by decide +kernel
theorem dX50_concludes_29 : decode cX50_concludes 29 = .ok (.istore_n 3, 1) := by decide +kernel
theorem dX50_concludes_30 : decode cX50_concludes 30 = .ok (.iconst 0, 1) := by decide +kernel
theorem dX50_concludes_31 : decode cX50_concludes 31 = .ok (.istore 4, 2) := by decide +kernel
theorem dX50_concludes_33 : decode cX50_concludes 33 = .ok (.iload 4, 2) := by decide +kernel
theorem dX50_concludes_35 : decode cX50_concludes 35 = .ok (.iconst 4, 1) := by decide +kernel
theorem dX50_concludes_36 : decode cX50_concludes 36 = .ok (.if_icmp .ge 44, 3) := by decide +kernel
theorem dX50_concludes_39 : decode cX50_concludes 39 = .ok (.iload_n 3, 1) := by decide +kernel
theorem dX50_concludes_40 : decode cX50_concludes 40 = .ok (.ifCond .eq 32, 3) := by decide +kernel
theorem dX50_concludes_43 : decode cX50_concludes 43 = .ok (.aload_n 0, 1) := by decide +kernel
theorem dX50_concludes_44 : decode cX50_concludes 44 = .ok (.getfield 140, 3) := by decide +kernel
theorem dX50_concludes_47 : decode cX50_concludes 47 = .ok (.iconst 4, 1) := by decide +kernel
theorem dX50_concludes_48 : decode cX50_concludes 48 = .ok (.iload_n 1, 1) := by decide +kernel
theorem dX50_concludes_49 : decode cX50_concludes 49 = .ok (.imul, 1) := by decide +kernel
theorem dX50_concludes_50 : decode cX50_concludes 50 = .ok (.iload 4, 2) := by decide +kernel
theorem dX50_concludes_52 : decode cX50_concludes 52 = .ok (.iadd, 1) := by decide +kernel
theorem dX50_concludes_53 : decode cX50_concludes 53 = .ok (.iaload, 1) := by decide +kernel
theorem dX50_concludes_54 : decode cX50_concludes 54 = .ok (.aload_n 0, 1) := by decide +kernel
theorem dX50_concludes_55 : decode cX50_concludes 55 = .ok (.getfield 125, 3) := by decide +kernel
theorem dX50_concludes_58 : decode cX50_concludes 58 = .ok (.iconst 4, 1) := by decide +kernel
theorem dX50_concludes_59 : decode cX50_concludes 59 = .ok (.iload_n 2, 1) := by decide +kernel
theorem dX50_concludes_60 : decode cX50_concludes 60 = .ok (.imul, 1) := by decide +kernel
theorem dX50_concludes_61 : decode cX50_concludes 61 = .ok (.iload 4, 2) := by decide +kernel
theorem dX50_concludes_63 : decode cX50_concludes 63 = .ok (.iadd, 1) := by decide +kernel
theorem dX50_concludes_64 : decode cX50_concludes 64 = .ok (.iaload, 1) := by decide +kernel
theorem dX50_concludes_65 : decode cX50_concludes 65 = .ok (.if_icmp .ne 7, 3) := by decide +kernel
theorem dX50_concludes_68 : decode cX50_concludes 68 = .ok (.iconst 1, 1) := by decide +kernel
theorem dX50_concludes_69 : decode cX50_concludes 69 = .ok (.goto 4, 3) := by decide +kernel
theorem dX50_concludes_72 : decode cX50_concludes 72 = .ok (.iconst 0, 1) := by decide +kernel
theorem dX50_concludes_73 : decode cX50_concludes 73 = .ok (.istore_n 3, 1) := by decide +kernel
theorem dX50_concludes_74 : decode cX50_concludes 74 = .ok (.iinc 4 1, 3) := by decide +kernel
theorem dX50_concludes_77 : decode cX50_concludes 77 = .ok (.goto (-44), 3) := by decide +kernel
theorem dX50_concludes_80 : decode cX50_concludes 80 = .ok (.iload_n 3, 1) := by decide +kernel
theorem dX50_concludes_81 : decode cX50_concludes 81 = .ok (.ireturn, 1) := by decide +kernel
theorem in_X50 : ∀ w ∈ wsX500, w ∈ lw_all := lw_in wsX500 [6301, 6303, 6305, 6307, 6309, 6311, 6313, 6315, 6317, 6319, 6321, 6323, 6325, 6327, 6329, 6331, 6333] (by decide +kernel) (by decide +kernel)
theorem q545 : (Jvm.Cond.initialized "KnowHouseModel$ProofCheckerModel") ∈ lw_all := lw_g (lw_at lw_m1 67 rfl) rfl
theorem q6284 : (Jvm.Cond.fieldLink "KnowHouseModel$ProofCheckerModel" (115 : Nat) "KnowHouseModel$ProofCheckerModel" "phrases" "[J") ∈ lw_all := lw_g (lw_at lw_m25 46 rfl) rfl
theorem q6285 : (Jvm.Cond.fieldLink "KnowHouseModel$ProofCheckerModel" (121 : Nat) "KnowHouseModel$ProofCheckerModel" "axioms" "[I") ∈ lw_all := lw_g (lw_at lw_m25 47 rfl) rfl
theorem q6286 : (Jvm.Cond.fieldLink "KnowHouseModel$ProofCheckerModel" (160 : Nat) "KnowHouseModel$ProofCheckerModel" "axiomCount" "I") ∈ lw_all := lw_g (lw_at lw_m25 48 rfl) rfl
theorem q6287 : (Jvm.Cond.fieldLink "KnowHouseModel$ProofCheckerModel" (125 : Nat) "KnowHouseModel$ProofCheckerModel" "triples" "[I") ∈ lw_all := lw_g (lw_at lw_m25 49 rfl) rfl
theorem q6288 : (Jvm.Cond.fieldLink "KnowHouseModel$ProofCheckerModel" (164 : Nat) "KnowHouseModel$ProofCheckerModel" "tripleCount" "I") ∈ lw_all := lw_g (lw_at lw_m25 50 rfl) rfl
theorem q6289 : (Jvm.Cond.fieldLink "KnowHouseModel$ProofCheckerModel" (128 : Nat) "KnowHouseModel$ProofCheckerModel" "rules" "[I") ∈ lw_all := lw_g (lw_at lw_m25 51 rfl) rfl
theorem q6290 : (Jvm.Cond.fieldLink "KnowHouseModel$ProofCheckerModel" (131 : Nat) "KnowHouseModel$ProofCheckerModel" "instances" "[I") ∈ lw_all := lw_g (lw_at lw_m25 52 rfl) rfl
theorem q6291 : (Jvm.Cond.fieldLink "KnowHouseModel$ProofCheckerModel" (134 : Nat) "KnowHouseModel$ProofCheckerModel" "counts" "[I") ∈ lw_all := lw_g (lw_at lw_m25 53 rfl) rfl
theorem q6292 : (Jvm.Cond.fieldLink "KnowHouseModel$ProofCheckerModel" (137 : Nat) "KnowHouseModel$ProofCheckerModel" "premises" "[I") ∈ lw_all := lw_g (lw_at lw_m25 54 rfl) rfl
theorem q6293 : (Jvm.Cond.fieldLink "KnowHouseModel$ProofCheckerModel" (167 : Nat) "KnowHouseModel$ProofCheckerModel" "rows" "I") ∈ lw_all := lw_g (lw_at lw_m25 55 rfl) rfl
theorem q6294 : (Jvm.Cond.fieldLink "KnowHouseModel$ProofCheckerModel" (140 : Nat) "KnowHouseModel$ProofCheckerModel" "stated" "[I") ∈ lw_all := lw_g (lw_at lw_m25 56 rfl) rfl
theorem q6295 : (Jvm.Cond.fieldLink "KnowHouseModel$ProofCheckerModel" (143 : Nat) "KnowHouseModel$ProofCheckerModel" "marks" "[Z") ∈ lw_all := lw_g (lw_at lw_m25 57 rfl) rfl
theorem q6296 : (Jvm.Cond.fieldLink "KnowHouseModel$ProofCheckerModel" (218 : Nat) "KnowHouseModel$ProofCheckerModel" "broken" "I") ∈ lw_all := lw_g (lw_at lw_m25 58 rfl) rfl
theorem q6297 : (Jvm.Cond.fieldLink "KnowHouseModel$ProofCheckerModel" (147 : Nat) "KnowHouseModel$ProofCheckerModel" "text" "[I") ∈ lw_all := lw_g (lw_at lw_m25 59 rfl) rfl
theorem q6298 : (Jvm.Cond.fieldLink "KnowHouseModel$ProofCheckerModel" (229 : Nat) "KnowHouseModel$ProofCheckerModel" "size" "I") ∈ lw_all := lw_g (lw_at lw_m25 60 rfl) rfl
theorem q6299 : (Jvm.Cond.fieldLink "KnowHouseModel$ProofCheckerModel" (150 : Nat) "KnowHouseModel$ProofCheckerModel" "sizes" "[I") ∈ lw_all := lw_g (lw_at lw_m25 61 rfl) rfl
theorem q6300 : (Jvm.Cond.fieldLink "KnowHouseModel$ProofCheckerModel" (153 : Nat) "KnowHouseModel$ProofCheckerModel" "places" "[I") ∈ lw_all := lw_g (lw_at lw_m25 62 rfl) rfl
theorem q8329 : (Jvm.Cond.methodLink "KnowHouseModel$ProofCheckerModel" (156 : Nat) ({ cls := "KnowHouseModel$ProofCheckerModel", name := "isTerm", desc := "(I)Z" } : Jvm.MethodName)) ∈ lw_all := lw_g (lw_at lw_m33 171 rfl) rfl
theorem q8330 : (Jvm.Cond.static ({ cls := "KnowHouseModel$ProofCheckerModel", name := "isTerm", desc := "(I)Z" } : Jvm.MethodName)) ∈ lw_all := lw_g (lw_at lw_m33 172 rfl) rfl
theorem q8331 : (Jvm.Cond.code ({ cls := "KnowHouseModel$ProofCheckerModel", name := "isTerm", desc := "(I)Z" } : Jvm.MethodName) prog_85_method_2_code (1 : Nat) (Option.some Jvm.ClassFile.FieldType.boolean)) ∈ lw_all := lw_g (lw_at lw_m33 173 rfl) rfl
theorem q8340 : (Jvm.Cond.methodLink "KnowHouseModel$ProofCheckerModel" (170 : Nat) ({ cls := "KnowHouseModel$ProofCheckerModel", name := "isInstance", desc := "(II)Z" } : Jvm.MethodName)) ∈ lw_all := lw_g (lw_at lw_m33 182 rfl) rfl
theorem q8342 : (Jvm.Cond.instanceMethod ({ cls := "KnowHouseModel$ProofCheckerModel", name := "isInstance", desc := "(II)Z" } : Jvm.MethodName)) ∈ lw_all := lw_g (lw_at lw_m33 184 rfl) rfl
theorem q8343 : (Jvm.Cond.code ({ cls := "KnowHouseModel$ProofCheckerModel", name := "isInstance", desc := "(II)Z" } : Jvm.MethodName) prog_85_method_7_code (3 : Nat) (Option.some Jvm.ClassFile.FieldType.boolean)) ∈ lw_all := lw_g (lw_at lw_m33 185 rfl) rfl
theorem q8344 : (Jvm.Cond.methodLink "KnowHouseModel$ProofCheckerModel" (174 : Nat) ({ cls := "KnowHouseModel$ProofCheckerModel", name := "isRow", desc := "(I)Z" } : Jvm.MethodName)) ∈ lw_all := lw_g (lw_at lw_m33 186 rfl) rfl
theorem q8346 : (Jvm.Cond.instanceMethod ({ cls := "KnowHouseModel$ProofCheckerModel", name := "isRow", desc := "(I)Z" } : Jvm.MethodName)) ∈ lw_all := lw_g (lw_at lw_m33 188 rfl) rfl
theorem q8347 : (Jvm.Cond.code ({ cls := "KnowHouseModel$ProofCheckerModel", name := "isRow", desc := "(I)Z" } : Jvm.MethodName) prog_85_method_6_code (2 : Nat) (Option.some Jvm.ClassFile.FieldType.boolean)) ∈ lw_all := lw_g (lw_at lw_m33 189 rfl) rfl
theorem q8348 : (Jvm.Cond.methodLink "KnowHouseModel$ProofCheckerModel" (177 : Nat) ({ cls := "KnowHouseModel$ProofCheckerModel", name := "takes", desc := "(I)I" } : Jvm.MethodName)) ∈ lw_all := lw_g (lw_at lw_m33 190 rfl) rfl
theorem q8349 : (Jvm.Cond.static ({ cls := "KnowHouseModel$ProofCheckerModel", name := "takes", desc := "(I)I" } : Jvm.MethodName)) ∈ lw_all := lw_g (lw_at lw_m33 191 rfl) rfl
theorem q8350 : (Jvm.Cond.code ({ cls := "KnowHouseModel$ProofCheckerModel", name := "takes", desc := "(I)I" } : Jvm.MethodName) prog_85_method_5_code (1 : Nat) (Option.some Jvm.ClassFile.FieldType.int)) ∈ lw_all := lw_g (lw_at lw_m33 192 rfl) rfl
theorem q8351 : (Jvm.Cond.methodLink "KnowHouseModel$ProofCheckerModel" (181 : Nat) ({ cls := "KnowHouseModel$ProofCheckerModel", name := "lay", desc := "(II)V" } : Jvm.MethodName)) ∈ lw_all := lw_g (lw_at lw_m33 193 rfl) rfl
theorem q8353 : (Jvm.Cond.instanceMethod ({ cls := "KnowHouseModel$ProofCheckerModel", name := "lay", desc := "(II)V" } : Jvm.MethodName)) ∈ lw_all := lw_g (lw_at lw_m33 195 rfl) rfl
theorem q8354 : (Jvm.Cond.code ({ cls := "KnowHouseModel$ProofCheckerModel", name := "lay", desc := "(II)V" } : Jvm.MethodName) prog_85_method_9_code (3 : Nat) (Option.none : Option Jvm.ClassFile.FieldType)) ∈ lw_all := lw_g (lw_at lw_m33 196 rfl) rfl
theorem q8363 : (Jvm.Cond.methodLink "KnowHouseModel$ProofCheckerModel" (212 : Nat) ({ cls := "KnowHouseModel$ProofCheckerModel", name := "mark", desc := "(I)I" } : Jvm.MethodName)) ∈ lw_all := lw_g (lw_at lw_m33 205 rfl) rfl
theorem q8365 : (Jvm.Cond.instanceMethod ({ cls := "KnowHouseModel$ProofCheckerModel", name := "mark", desc := "(I)I" } : Jvm.MethodName)) ∈ lw_all := lw_g (lw_at lw_m33 207 rfl) rfl
theorem q8366 : (Jvm.Cond.code ({ cls := "KnowHouseModel$ProofCheckerModel", name := "mark", desc := "(I)I" } : Jvm.MethodName) prog_85_method_20_code (5 : Nat) (Option.some Jvm.ClassFile.FieldType.int)) ∈ lw_all := lw_g (lw_at lw_m33 208 rfl) rfl
theorem q8367 : (Jvm.Cond.methodLink "KnowHouseModel$ProofCheckerModel" (215 : Nat) ({ cls := "KnowHouseModel$ProofCheckerModel", name := "work", desc := "(I)V" } : Jvm.MethodName)) ∈ lw_all := lw_g (lw_at lw_m33 209 rfl) rfl
theorem q8369 : (Jvm.Cond.instanceMethod ({ cls := "KnowHouseModel$ProofCheckerModel", name := "work", desc := "(I)V" } : Jvm.MethodName)) ∈ lw_all := lw_g (lw_at lw_m33 211 rfl) rfl
theorem q8370 : (Jvm.Cond.code ({ cls := "KnowHouseModel$ProofCheckerModel", name := "work", desc := "(I)V" } : Jvm.MethodName) prog_85_method_16_code (5 : Nat) (Option.none : Option Jvm.ClassFile.FieldType)) ∈ lw_all := lw_g (lw_at lw_m33 212 rfl) rfl
theorem q8371 : (Jvm.Cond.methodLink "KnowHouseModel$ProofCheckerModel" (189 : Nat) ({ cls := "KnowHouseModel$ProofCheckerModel", name := "state", desc := "(IIIII)V" } : Jvm.MethodName)) ∈ lw_all := lw_g (lw_at lw_m33 213 rfl) rfl
theorem q8373 : (Jvm.Cond.instanceMethod ({ cls := "KnowHouseModel$ProofCheckerModel", name := "state", desc := "(IIIII)V" } : Jvm.MethodName)) ∈ lw_all := lw_g (lw_at lw_m33 215 rfl) rfl
theorem q8374 : (Jvm.Cond.code ({ cls := "KnowHouseModel$ProofCheckerModel", name := "state", desc := "(IIIII)V" } : Jvm.MethodName) prog_85_method_14_code (6 : Nat) (Option.none : Option Jvm.ClassFile.FieldType)) ∈ lw_all := lw_g (lw_at lw_m33 216 rfl) rfl
theorem q8375 : (Jvm.Cond.methodLink "KnowHouseModel$ProofCheckerModel" (185 : Nat) ({ cls := "KnowHouseModel$ProofCheckerModel", name := "of", desc := "(III)I" } : Jvm.MethodName)) ∈ lw_all := lw_g (lw_at lw_m33 217 rfl) rfl
theorem q8377 : (Jvm.Cond.instanceMethod ({ cls := "KnowHouseModel$ProofCheckerModel", name := "of", desc := "(III)I" } : Jvm.MethodName)) ∈ lw_all := lw_g (lw_at lw_m33 219 rfl) rfl
theorem q8378 : (Jvm.Cond.code ({ cls := "KnowHouseModel$ProofCheckerModel", name := "of", desc := "(III)I" } : Jvm.MethodName) prog_85_method_12_code (4 : Nat) (Option.some Jvm.ClassFile.FieldType.int)) ∈ lw_all := lw_g (lw_at lw_m33 220 rfl) rfl
theorem q8379 : (Jvm.Cond.methodLink "KnowHouseModel$ProofCheckerModel" (193 : Nat) ({ cls := "KnowHouseModel$ProofCheckerModel", name := "single", desc := "(I)V" } : Jvm.MethodName)) ∈ lw_all := lw_g (lw_at lw_m33 221 rfl) rfl
theorem q8381 : (Jvm.Cond.instanceMethod ({ cls := "KnowHouseModel$ProofCheckerModel", name := "single", desc := "(I)V" } : Jvm.MethodName)) ∈ lw_all := lw_g (lw_at lw_m33 223 rfl) rfl
theorem q8382 : (Jvm.Cond.code ({ cls := "KnowHouseModel$ProofCheckerModel", name := "single", desc := "(I)V" } : Jvm.MethodName) prog_85_method_17_code (3 : Nat) (Option.none : Option Jvm.ClassFile.FieldType)) ∈ lw_all := lw_g (lw_at lw_m33 224 rfl) rfl
theorem q8383 : (Jvm.Cond.methodLink "KnowHouseModel$ProofCheckerModel" (197 : Nat) ({ cls := "KnowHouseModel$ProofCheckerModel", name := "copy", desc := "([III)V" } : Jvm.MethodName)) ∈ lw_all := lw_g (lw_at lw_m33 225 rfl) rfl
theorem q8385 : (Jvm.Cond.instanceMethod ({ cls := "KnowHouseModel$ProofCheckerModel", name := "copy", desc := "([III)V" } : Jvm.MethodName)) ∈ lw_all := lw_g (lw_at lw_m33 227 rfl) rfl
theorem q8386 : (Jvm.Cond.code ({ cls := "KnowHouseModel$ProofCheckerModel", name := "copy", desc := "([III)V" } : Jvm.MethodName) prog_85_method_15_code (4 : Nat) (Option.none : Option Jvm.ClassFile.FieldType)) ∈ lw_all := lw_g (lw_at lw_m33 228 rfl) rfl
theorem q8387 : (Jvm.Cond.methodLink "KnowHouseModel$ProofCheckerModel" (201 : Nat) ({ cls := "KnowHouseModel$ProofCheckerModel", name := "chain", desc := "(I)V" } : Jvm.MethodName)) ∈ lw_all := lw_g (lw_at lw_m33 229 rfl) rfl
theorem q8389 : (Jvm.Cond.instanceMethod ({ cls := "KnowHouseModel$ProofCheckerModel", name := "chain", desc := "(I)V" } : Jvm.MethodName)) ∈ lw_all := lw_g (lw_at lw_m33 231 rfl) rfl
theorem q8390 : (Jvm.Cond.code ({ cls := "KnowHouseModel$ProofCheckerModel", name := "chain", desc := "(I)V" } : Jvm.MethodName) prog_85_method_18_code (9 : Nat) (Option.none : Option Jvm.ClassFile.FieldType)) ∈ lw_all := lw_g (lw_at lw_m33 232 rfl) rfl
theorem q8391 : (Jvm.Cond.methodLink "KnowHouseModel$ProofCheckerModel" (204 : Nat) ({ cls := "KnowHouseModel$ProofCheckerModel", name := "is", desc := "(III)Z" } : Jvm.MethodName)) ∈ lw_all := lw_g (lw_at lw_m33 233 rfl) rfl
theorem q8393 : (Jvm.Cond.instanceMethod ({ cls := "KnowHouseModel$ProofCheckerModel", name := "is", desc := "(III)Z" } : Jvm.MethodName)) ∈ lw_all := lw_g (lw_at lw_m33 235 rfl) rfl
theorem q8394 : (Jvm.Cond.code ({ cls := "KnowHouseModel$ProofCheckerModel", name := "is", desc := "(III)Z" } : Jvm.MethodName) prog_85_method_13_code (4 : Nat) (Option.some Jvm.ClassFile.FieldType.boolean)) ∈ lw_all := lw_g (lw_at lw_m33 236 rfl) rfl
theorem q8395 : (Jvm.Cond.methodLink "KnowHouseModel$ProofCheckerModel" (208 : Nat) ({ cls := "KnowHouseModel$ProofCheckerModel", name := "three", desc := "(IIII)V" } : Jvm.MethodName)) ∈ lw_all := lw_g (lw_at lw_m33 237 rfl) rfl
theorem q8397 : (Jvm.Cond.instanceMethod ({ cls := "KnowHouseModel$ProofCheckerModel", name := "three", desc := "(IIII)V" } : Jvm.MethodName)) ∈ lw_all := lw_g (lw_at lw_m33 239 rfl) rfl
theorem q8398 : (Jvm.Cond.code ({ cls := "KnowHouseModel$ProofCheckerModel", name := "three", desc := "(IIII)V" } : Jvm.MethodName) prog_85_method_19_code (9 : Nat) (Option.none : Option Jvm.ClassFile.FieldType)) ∈ lw_all := lw_g (lw_at lw_m34 0 rfl) rfl
theorem q8399 : (Jvm.Cond.methodLink "KnowHouseModel$ProofCheckerModel" (221 : Nat) ({ cls := "KnowHouseModel$ProofCheckerModel", name := "kindOf", desc := "(I)I" } : Jvm.MethodName)) ∈ lw_all := lw_g (lw_at lw_m34 1 rfl) rfl
theorem q8401 : (Jvm.Cond.instanceMethod ({ cls := "KnowHouseModel$ProofCheckerModel", name := "kindOf", desc := "(I)I" } : Jvm.MethodName)) ∈ lw_all := lw_g (lw_at lw_m34 3 rfl) rfl
theorem q8402 : (Jvm.Cond.code ({ cls := "KnowHouseModel$ProofCheckerModel", name := "kindOf", desc := "(I)I" } : Jvm.MethodName) prog_85_method_11_code (2 : Nat) (Option.some Jvm.ClassFile.FieldType.int)) ∈ lw_all := lw_g (lw_at lw_m34 4 rfl) rfl
theorem q8415 : (Jvm.Cond.constantLong "KnowHouseModel$ProofCheckerModel" (224 : Nat) (1000000000 : Int64)) ∈ lw_all := lw_g (lw_at lw_m34 17 rfl) rfl
theorem q8416 : (Jvm.Cond.constant "KnowHouseModel$ProofCheckerModel" (226 : Nat) (1000000000 : Int32)) ∈ lw_all := lw_g (lw_at lw_m34 18 rfl) rfl
theorem q8433 : (Jvm.Cond.methodLink "KnowHouseModel$ProofCheckerModel" (235 : Nat) ({ cls := "KnowHouseModel$ProofCheckerModel", name := "number", desc := "(I)V" } : Jvm.MethodName)) ∈ lw_all := lw_g (lw_at lw_m34 35 rfl) rfl
theorem q8435 : (Jvm.Cond.instanceMethod ({ cls := "KnowHouseModel$ProofCheckerModel", name := "number", desc := "(I)V" } : Jvm.MethodName)) ∈ lw_all := lw_g (lw_at lw_m34 37 rfl) rfl
theorem q8436 : (Jvm.Cond.code ({ cls := "KnowHouseModel$ProofCheckerModel", name := "number", desc := "(I)V" } : Jvm.MethodName) prog_85_method_30_code (4 : Nat) (Option.none : Option Jvm.ClassFile.FieldType)) ∈ lw_all := lw_g (lw_at lw_m34 38 rfl) rfl
theorem q8437 : (Jvm.Cond.methodLink "KnowHouseModel$ProofCheckerModel" (232 : Nat) ({ cls := "KnowHouseModel$ProofCheckerModel", name := "put", desc := "(I)V" } : Jvm.MethodName)) ∈ lw_all := lw_g (lw_at lw_m34 39 rfl) rfl
theorem q8439 : (Jvm.Cond.instanceMethod ({ cls := "KnowHouseModel$ProofCheckerModel", name := "put", desc := "(I)V" } : Jvm.MethodName)) ∈ lw_all := lw_g (lw_at lw_m34 41 rfl) rfl
theorem q8440 : (Jvm.Cond.code ({ cls := "KnowHouseModel$ProofCheckerModel", name := "put", desc := "(I)V" } : Jvm.MethodName) prog_85_method_29_code (5 : Nat) (Option.none : Option Jvm.ClassFile.FieldType)) ∈ lw_all := lw_g (lw_at lw_m34 42 rfl) rfl
theorem q8441 : (Jvm.Cond.constantLong "KnowHouseModel$ProofCheckerModel" (227 : Nat) (255 : Int64)) ∈ lw_all := lw_g (lw_at lw_m34 43 rfl) rfl
theorem q8442 : (Jvm.Cond.methodLink "KnowHouseModel$ProofCheckerModel" (238 : Nat) ({ cls := "KnowHouseModel$ProofCheckerModel", name := "statement", desc := "(IIII)V" } : Jvm.MethodName)) ∈ lw_all := lw_g (lw_at lw_m34 44 rfl) rfl
theorem q8444 : (Jvm.Cond.instanceMethod ({ cls := "KnowHouseModel$ProofCheckerModel", name := "statement", desc := "(IIII)V" } : Jvm.MethodName)) ∈ lw_all := lw_g (lw_at lw_m34 46 rfl) rfl
theorem q8445 : (Jvm.Cond.code ({ cls := "KnowHouseModel$ProofCheckerModel", name := "statement", desc := "(IIII)V" } : Jvm.MethodName) prog_85_method_32_code (5 : Nat) (Option.none : Option Jvm.ClassFile.FieldType)) ∈ lw_all := lw_g (lw_at lw_m34 47 rfl) rfl
theorem q8446 : (Jvm.Cond.methodLink "KnowHouseModel$ProofCheckerModel" (241 : Nat) ({ cls := "KnowHouseModel$ProofCheckerModel", name := "wordOf", desc := "(I)I" } : Jvm.MethodName)) ∈ lw_all := lw_g (lw_at lw_m34 48 rfl) rfl
theorem q8447 : (Jvm.Cond.static ({ cls := "KnowHouseModel$ProofCheckerModel", name := "wordOf", desc := "(I)I" } : Jvm.MethodName)) ∈ lw_all := lw_g (lw_at lw_m34 49 rfl) rfl
theorem q8448 : (Jvm.Cond.code ({ cls := "KnowHouseModel$ProofCheckerModel", name := "wordOf", desc := "(I)I" } : Jvm.MethodName) prog_85_method_31_code (1 : Nat) (Option.some Jvm.ClassFile.FieldType.int)) ∈ lw_all := lw_g (lw_at lw_m34 50 rfl) rfl
theorem gX50_156 : GoodIn lw_all (va_wsS RX50 156 yX50_isTerm (ws_ yX50_isTerm cX50_isTerm 1 (Option.some Jvm.ClassFile.FieldType.boolean))) := lw_S q8329 q8330 q545 q8331
theorem gX50_170 : GoodIn lw_all (wsV RX50 170 RX50 yX50_isInstance (ws_ yX50_isInstance cX50_isInstance 3 (Option.some Jvm.ClassFile.FieldType.boolean))) := lw_V q8340 q8342 qs411 q545 q8343
theorem gX50_174 : GoodIn lw_all (wsV RX50 174 RX50 yX50_isRow (ws_ yX50_isRow cX50_isRow 2 (Option.some Jvm.ClassFile.FieldType.boolean))) := lw_V q8344 q8346 qs412 q545 q8347
theorem gX50_177 : GoodIn lw_all (va_wsS RX50 177 yX50_takes (ws_ yX50_takes cX50_takes 1 (Option.some Jvm.ClassFile.FieldType.int))) := lw_S q8348 q8349 q545 q8350
theorem gX50_181 : GoodIn lw_all (wsV RX50 181 RX50 yX50_lay (ws_ yX50_lay cX50_lay 3 (Option.none : Option Jvm.ClassFile.FieldType))) := lw_V q8351 q8353 qs413 q545 q8354
theorem gX50_185 : GoodIn lw_all (wsV RX50 185 RX50 yX50_of (ws_ yX50_of cX50_of 4 (Option.some Jvm.ClassFile.FieldType.int))) := lw_V q8375 q8377 qs417 q545 q8378
theorem gX50_189 : GoodIn lw_all (wsV RX50 189 RX50 yX50_state (ws_ yX50_state cX50_state 6 (Option.none : Option Jvm.ClassFile.FieldType))) := lw_V q8371 q8373 qs416 q545 q8374
theorem gX50_193 : GoodIn lw_all (wsV RX50 193 RX50 yX50_single (ws_ yX50_single cX50_single 3 (Option.none : Option Jvm.ClassFile.FieldType))) := lw_V q8379 q8381 qs418 q545 q8382
theorem gX50_197 : GoodIn lw_all (wsV RX50 197 RX50 yX50_copy (ws_ yX50_copy cX50_copy 4 (Option.none : Option Jvm.ClassFile.FieldType))) := lw_V q8383 q8385 qs419 q545 q8386
theorem gX50_201 : GoodIn lw_all (wsV RX50 201 RX50 yX50_chain (ws_ yX50_chain cX50_chain 9 (Option.none : Option Jvm.ClassFile.FieldType))) := lw_V q8387 q8389 qs420 q545 q8390
theorem gX50_204 : GoodIn lw_all (wsV RX50 204 RX50 yX50_is (ws_ yX50_is cX50_is 4 (Option.some Jvm.ClassFile.FieldType.boolean))) := lw_V q8391 q8393 qs421 q545 q8394
theorem gX50_208 : GoodIn lw_all (wsV RX50 208 RX50 yX50_three (ws_ yX50_three cX50_three 9 (Option.none : Option Jvm.ClassFile.FieldType))) := lw_V q8395 q8397 qs422 q545 q8398
theorem gX50_212 : GoodIn lw_all (wsV RX50 212 RX50 yX50_mark (ws_ yX50_mark cX50_mark 5 (Option.some Jvm.ClassFile.FieldType.int))) := lw_V q8363 q8365 qs414 q545 q8366
theorem gX50_215 : GoodIn lw_all (wsV RX50 215 RX50 yX50_work (ws_ yX50_work cX50_work 5 (Option.none : Option Jvm.ClassFile.FieldType))) := lw_V q8367 q8369 qs415 q545 q8370
theorem gX50_221 : GoodIn lw_all (wsV RX50 221 RX50 yX50_kindOf (ws_ yX50_kindOf cX50_kindOf 2 (Option.some Jvm.ClassFile.FieldType.int))) := lw_V q8399 q8401 qs423 q545 q8402
theorem gX50_232 : GoodIn lw_all (wsV RX50 232 RX50 yX50_put (ws_ yX50_put cX50_put 5 (Option.none : Option Jvm.ClassFile.FieldType))) := lw_V q8437 q8439 qs425 q545 q8440
theorem gX50_235 : GoodIn lw_all (wsV RX50 235 RX50 yX50_number (ws_ yX50_number cX50_number 4 (Option.none : Option Jvm.ClassFile.FieldType))) := lw_V q8433 q8435 qs424 q545 q8436
theorem gX50_238 : GoodIn lw_all (wsV RX50 238 RX50 yX50_statement (ws_ yX50_statement cX50_statement 5 (Option.none : Option Jvm.ClassFile.FieldType))) := lw_V q8442 q8444 qs426 q545 q8445
theorem gX50_241 : GoodIn lw_all (va_wsS RX50 241 yX50_wordOf (ws_ yX50_wordOf cX50_wordOf 1 (Option.some Jvm.ClassFile.FieldType.int))) := lw_S q8446 q8447 q545 q8448
theorem hX50_chain : yX50_chain.cls = RX50 ∧ yX50_chain.cls ≠ "java/lang/invoke/MethodHandle" ∧ yX50_chain.cls ≠ "java/lang/invoke/VarHandle" ∧ (parseMethodDescriptor yX50_chain.desc).map (fun d => d.parameters.length) = some 1 := by decide +kernel
theorem hX50_copy : yX50_copy.cls = RX50 ∧ yX50_copy.cls ≠ "java/lang/invoke/MethodHandle" ∧ yX50_copy.cls ≠ "java/lang/invoke/VarHandle" ∧ (parseMethodDescriptor yX50_copy.desc).map (fun d => d.parameters.length) = some 3 := by decide +kernel
theorem hX50_is : yX50_is.cls = RX50 ∧ yX50_is.cls ≠ "java/lang/invoke/MethodHandle" ∧ yX50_is.cls ≠ "java/lang/invoke/VarHandle" ∧ (parseMethodDescriptor yX50_is.desc).map (fun d => d.parameters.length) = some 3 := by decide +kernel
theorem hX50_isInstance : yX50_isInstance.cls = RX50 ∧ yX50_isInstance.cls ≠ "java/lang/invoke/MethodHandle" ∧ yX50_isInstance.cls ≠ "java/lang/invoke/VarHandle" ∧ (parseMethodDescriptor yX50_isInstance.desc).map (fun d => d.parameters.length) = some 2 := by decide +kernel
theorem hX50_isRow : yX50_isRow.cls = RX50 ∧ yX50_isRow.cls ≠ "java/lang/invoke/MethodHandle" ∧ yX50_isRow.cls ≠ "java/lang/invoke/VarHandle" ∧ (parseMethodDescriptor yX50_isRow.desc).map (fun d => d.parameters.length) = some 1 := by decide +kernel
theorem hX50_isTerm : yX50_isTerm.cls ≠ "java/lang/invoke/MethodHandle" ∧ yX50_isTerm.cls ≠ "java/lang/invoke/VarHandle" ∧ (parseMethodDescriptor yX50_isTerm.desc).map (fun d => d.parameters.length) = some 1 := by decide +kernel
theorem hX50_kindOf : yX50_kindOf.cls = RX50 ∧ yX50_kindOf.cls ≠ "java/lang/invoke/MethodHandle" ∧ yX50_kindOf.cls ≠ "java/lang/invoke/VarHandle" ∧ (parseMethodDescriptor yX50_kindOf.desc).map (fun d => d.parameters.length) = some 1 := by decide +kernel
theorem hX50_lay : yX50_lay.cls = RX50 ∧ yX50_lay.cls ≠ "java/lang/invoke/MethodHandle" ∧ yX50_lay.cls ≠ "java/lang/invoke/VarHandle" ∧ (parseMethodDescriptor yX50_lay.desc).map (fun d => d.parameters.length) = some 2 := by decide +kernel
theorem hX50_mark : yX50_mark.cls = RX50 ∧ yX50_mark.cls ≠ "java/lang/invoke/MethodHandle" ∧ yX50_mark.cls ≠ "java/lang/invoke/VarHandle" ∧ (parseMethodDescriptor yX50_mark.desc).map (fun d => d.parameters.length) = some 1 := by decide +kernel
theorem hX50_number : yX50_number.cls = RX50 ∧ yX50_number.cls ≠ "java/lang/invoke/MethodHandle" ∧ yX50_number.cls ≠ "java/lang/invoke/VarHandle" ∧ (parseMethodDescriptor yX50_number.desc).map (fun d => d.parameters.length) = some 1 := by decide +kernel
theorem hX50_of : yX50_of.cls = RX50 ∧ yX50_of.cls ≠ "java/lang/invoke/MethodHandle" ∧ yX50_of.cls ≠ "java/lang/invoke/VarHandle" ∧ (parseMethodDescriptor yX50_of.desc).map (fun d => d.parameters.length) = some 3 := by decide +kernel
theorem hX50_put : yX50_put.cls = RX50 ∧ yX50_put.cls ≠ "java/lang/invoke/MethodHandle" ∧ yX50_put.cls ≠ "java/lang/invoke/VarHandle" ∧ (parseMethodDescriptor yX50_put.desc).map (fun d => d.parameters.length) = some 1 := by decide +kernel
theorem hX50_single : yX50_single.cls = RX50 ∧ yX50_single.cls ≠ "java/lang/invoke/MethodHandle" ∧ yX50_single.cls ≠ "java/lang/invoke/VarHandle" ∧ (parseMethodDescriptor yX50_single.desc).map (fun d => d.parameters.length) = some 1 := by decide +kernel
theorem hX50_state : yX50_state.cls = RX50 ∧ yX50_state.cls ≠ "java/lang/invoke/MethodHandle" ∧ yX50_state.cls ≠ "java/lang/invoke/VarHandle" ∧ (parseMethodDescriptor yX50_state.desc).map (fun d => d.parameters.length) = some 5 := by decide +kernel
theorem hX50_statement : yX50_statement.cls = RX50 ∧ yX50_statement.cls ≠ "java/lang/invoke/MethodHandle" ∧ yX50_statement.cls ≠ "java/lang/invoke/VarHandle" ∧ (parseMethodDescriptor yX50_statement.desc).map (fun d => d.parameters.length) = some 4 := by decide +kernel
theorem hX50_takes : yX50_takes.cls ≠ "java/lang/invoke/MethodHandle" ∧ yX50_takes.cls ≠ "java/lang/invoke/VarHandle" ∧ (parseMethodDescriptor yX50_takes.desc).map (fun d => d.parameters.length) = some 1 := by decide +kernel
theorem hX50_three : yX50_three.cls = RX50 ∧ yX50_three.cls ≠ "java/lang/invoke/MethodHandle" ∧ yX50_three.cls ≠ "java/lang/invoke/VarHandle" ∧ (parseMethodDescriptor yX50_three.desc).map (fun d => d.parameters.length) = some 4 := by decide +kernel
theorem hX50_wordOf : yX50_wordOf.cls ≠ "java/lang/invoke/MethodHandle" ∧ yX50_wordOf.cls ≠ "java/lang/invoke/VarHandle" ∧ (parseMethodDescriptor yX50_wordOf.desc).map (fun d => d.parameters.length) = some 1 := by decide +kernel
theorem hX50_work : yX50_work.cls = RX50 ∧ yX50_work.cls ≠ "java/lang/invoke/MethodHandle" ∧ yX50_work.cls ≠ "java/lang/invoke/VarHandle" ∧ (parseMethodDescriptor yX50_work.desc).map (fun d => d.parameters.length) = some 1 := by decide +kernel
