/-! room RE (printed by tools/zgen2.py) -/
set_option maxRecDepth 100000
def RX35 : String := "KnowHouse$RuleEngine"
def TX35 : u_T := fun k => match k with
  | 0 => ("KnowHouse$RuleEngine", "said", "Ljava/util/BitSet;", true)
  | 1 => ("KnowHouse$RuleEngine", "rules", "Ljava/util/ArrayList;", true)
  | 2 => ("KnowHouse$RuleEngine", "strata", "[I", true)
  | 3 => ("KnowHouse$RuleEngine", "needs", "[I", true)
  | 4 => ("KnowHouse$RuleEngine", "safe", "[Z", true)
  | 5 => ("KnowHouse$RuleEngine", "circle", "I", false)
  | 6 => ("KnowHouse$RuleEngine", "known", "Z", false)
  | 7 => ("KnowHouse$RuleEngine", "holds", "Ljava/util/BitSet;", true)
  | 8 => ("KnowHouse$RuleEngine", "rounds", "[I", true)
  | 9 => ("KnowHouse$RuleEngine", "counts", "[I", true)
  | 10 => ("KnowHouse$RuleEngine", "roundCount", "I", false)
  | 11 => ("KnowHouse$RuleEngine", "last", "Ljava/util/BitSet;", false)
  | 12 => ("KnowHouse$RuleEngine", "next", "Ljava/util/BitSet;", false)
  | 13 => ("KnowHouse$RuleEngine", "values", "[I", true)
  | 14 => ("KnowHouse$RuleEngine", "coming", "LKnowHouse$RuleEngine$Found;", true)
  | 15 => ("KnowHouse$RuleEngine", "counting", "LKnowHouse$RuleEngine$Found;", true)
  | 16 => ("KnowHouse$RuleEngine", "gathering", "LKnowHouse$RuleEngine$Found;", true)
  | 17 => ("KnowHouse$RuleEngine", "together", "[I", true)
  | 18 => ("KnowHouse$RuleEngine", "held", "[I", true)
  | 19 => ("KnowHouse$RuleEngine", "work", "J", false)
  | _ => ("KnowHouse$RuleEngine", "large", "Z", false)
def tyX35 : Nat → FieldType := fun k => match k with
  | 0 => .object "java/util/BitSet"
  | 1 => .object "java/util/ArrayList"
  | 2 => .array .int
  | 3 => .array .int
  | 4 => .array .boolean
  | 5 => .int
  | 6 => .boolean
  | 7 => .object "java/util/BitSet"
  | 8 => .array .int
  | 9 => .array .int
  | 10 => .int
  | 11 => .object "java/util/BitSet"
  | 12 => .object "java/util/BitSet"
  | 13 => .array .int
  | 14 => .object "KnowHouse$RuleEngine$Found"
  | 15 => .object "KnowHouse$RuleEngine$Found"
  | 16 => .object "KnowHouse$RuleEngine$Found"
  | 17 => .array .int
  | 18 => .array .int
  | 19 => .long
  | _ => .boolean
abbrev wsX350 : List Cond := u_ws RX35 TX35 21
theorem nmX35 : ∀ a, a < 21 → ∀ b, b < 21 → a ≠ b → (TX35 a).2.1 ≠ (TX35 b).2.1 := by decide +kernel
theorem tyX35_ok : ∀ k, k < 21 → parseFieldDescriptor (TX35 k).2.2.1 = some (tyX35 k) := by decide +kernel
abbrev cX35_init : ByteArray := prog_58_method_1_code
def yX35_init : MethodName := ⟨RX35, "<init>", "()V"⟩
theorem dX35_init_0 : decode cX35_init 0 = .ok (.aload_n 0, 1) := by decide +kernel
theorem dX35_init_1 : decode cX35_init 1 = .ok (.invokespecial 1, 3) := by decide +kernel
theorem dX35_init_4 : decode cX35_init 4 = .ok (.aload_n 0, 1) := by decide +kernel
theorem dX35_init_5 : decode cX35_init 5 = .ok (.new 7, 3) := by decide +kernel
theorem dX35_init_8 : decode cX35_init 8 = .ok (.dup, 1) := by decide +kernel
theorem dX35_init_9 : decode cX35_init 9 = .ok (.invokespecial 9, 3) := by decide +kernel
theorem dX35_init_12 : decode cX35_init 12 = .ok (.putfield 10, 3) := by decide +kernel
theorem dX35_init_15 : decode cX35_init 15 = .ok (.aload_n 0, 1) := by decide +kernel
theorem dX35_init_16 : decode cX35_init 16 = .ok (.new 16, 3) := by decide +kernel
theorem dX35_init_19 : decode cX35_init 19 = .ok (.dup, 1) := by decide +kernel
theorem dX35_init_20 : decode cX35_init 20 = .ok (.invokespecial 18, 3) := by decide +kernel
theorem dX35_init_23 : decode cX35_init 23 = .ok (.putfield 19, 3) := by decide +kernel
theorem dX35_init_26 : decode cX35_init 26 = .ok (.aload_n 0, 1) := by decide +kernel
theorem dX35_init_27 : decode cX35_init 27 = .ok (.bipush 16, 2) := by decide +kernel
theorem dX35_init_29 : decode cX35_init 29 = .ok (.newarray .int, 2) := by decide +kernel
theorem dX35_init_31 : decode cX35_init 31 = .ok (.putfield 23, 3) := by decide +kernel
theorem dX35_init_34 : decode cX35_init 34 = .ok (.aload_n 0, 1) := by decide +kernel
theorem dX35_init_35 : decode cX35_init 35 = .ok (.bipush 16, 2) := by decide +kernel
theorem dX35_init_37 : decode cX35_init 37 = .ok (.newarray .int, 2) := by decide +kernel
theorem dX35_init_39 : decode cX35_init 39 = .ok (.putfield 27, 3) := by decide +kernel
theorem dX35_init_42 : decode cX35_init 42 = .ok (.aload_n 0, 1) := by decide +kernel
theorem dX35_init_43 : decode cX35_init 43 = .ok (.bipush 16, 2) := by decide +kernel
theorem dX35_init_45 : decode cX35_init 45 = .ok (.newarray .boolean, 2) := by decide +kernel
theorem dX35_init_47 : decode cX35_init 47 = .ok (.putfield 30, 3) := by decide +kernel
theorem dX35_init_50 : decode cX35_init 50 = .ok (.aload_n 0, 1) := by decide +kernel
theorem dX35_init_51 : decode cX35_init 51 = .ok (.new 7, 3) := by decide +kernel
theorem dX35_init_54 : decode cX35_init 54 = .ok (.dup, 1) := by decide +kernel
theorem dX35_init_55 : decode cX35_init 55 = .ok (.invokespecial 9, 3) := by decide +kernel
theorem dX35_init_58 : decode cX35_init 58 = .ok (.putfield 34, 3) := by decide +kernel
theorem dX35_init_61 : decode cX35_init 61 = .ok (.aload_n 0, 1) := by decide +kernel
theorem dX35_init_62 : decode cX35_init 62 = .ok (.sipush 16384, 3) := by decide +kernel
theorem dX35_init_65 : decode cX35_init 65 = .ok (.newarray .int, 2) := by decide +kernel
theorem dX35_init_67 : decode cX35_init 67 = .ok (.putfield 37, 3) := by decide +kernel
theorem dX35_init_70 : decode cX35_init 70 = .ok (.aload_n 0, 1) := by decide +kernel
theorem dX35_init_71 : decode cX35_init 71 = .ok (.sipush 16384, 3) := by decide +kernel
theorem dX35_init_74 : decode cX35_init 74 = .ok (.newarray .int, 2) := by decide +kernel
theorem dX35_init_76 : decode cX35_init 76 = .ok (.putfield 40, 3) := by decide +kernel
theorem dX35_init_79 : decode cX35_init 79 = .ok (.aload_n 0, 1) := by decide +kernel
theorem dX35_init_80 : decode cX35_init 80 = .ok (.new 7, 3) := by decide +kernel
theorem dX35_init_83 : decode cX35_init 83 = .ok (.dup, 1) := by decide +kernel
theorem dX35_init_84 : decode cX35_init 84 = .ok (.invokespecial 9, 3) := by decide +kernel
theorem dX35_init_87 : decode cX35_init 87 = .ok (.putfield 43, 3) := by decide +kernel
theorem dX35_init_90 : decode cX35_init 90 = .ok (.aload_n 0, 1) := by decide +kernel
theorem dX35_init_91 : decode cX35_init 91 = .ok (.new 7, 3) := by decide +kernel
theorem dX35_init_94 : decode cX35_init 94 = .ok (.dup, 1) := by decide +kernel
theorem dX35_init_95 : decode cX35_init 95 = .ok (.invokespecial 9, 3) := by decide +kernel
theorem dX35_init_98 : decode cX35_init 98 = .ok (.putfield 46, 3) := by decide +kernel
theorem dX35_init_101 : decode cX35_init 101 = .ok (.aload_n 0, 1) := by decide +kernel
theorem dX35_init_102 : decode cX35_init 102 = .ok (.bipush 6, 2) := by decide +kernel
theorem dX35_init_104 : decode cX35_init 104 = .ok (.newarray .int, 2) := by decide +kernel
theorem dX35_init_106 : decode cX35_init 106 = .ok (.putfield 49, 3) := by decide +kernel
theorem dX35_init_109 : decode cX35_init 109 = .ok (.aload_n 0, 1) := by decide +kernel
theorem dX35_init_110 : decode cX35_init 110 = .ok (.new 52, 3) := by decide +kernel
theorem dX35_init_113 : decode cX35_init 113 = .ok (.dup, 1) := by decide +kernel
theorem dX35_init_114 : decode cX35_init 114 = .ok (.invokespecial 54, 3) := by decide +kernel
theorem dX35_init_117 : decode cX35_init 117 = .ok (.putfield 55, 3) := by decide +kernel
theorem dX35_init_120 : decode cX35_init 120 = .ok (.aload_n 0, 1) := by decide +kernel
theorem dX35_init_121 : decode cX35_init 121 = .ok (.new 59, 3) := by decide +kernel
theorem dX35_init_124 : decode cX35_init 124 = .ok (.dup, 1) := by decide +kernel
theorem dX35_init_125 : decode cX35_init 125 = .ok (.invokespecial 61, 3) := by decide +kernel
theorem dX35_init_128 : decode cX35_init 128 = .ok (.putfield 62, 3) := by decide +kernel
theorem dX35_init_131 : decode cX35_init 131 = .ok (.aload_n 0, 1) := by decide +kernel
theorem dX35_init_132 : decode cX35_init 132 = .ok (.new 65, 3) := by decide +kernel
theorem dX35_init_135 : decode cX35_init 135 = .ok (.dup, 1) := by decide +kernel
theorem dX35_init_136 : decode cX35_init 136 = .ok (.invokespecial 67, 3) := by decide +kernel
theorem dX35_init_139 : decode cX35_init 139 = .ok (.putfield 68, 3) := by decide +kernel
theorem dX35_init_142 : decode cX35_init 142 = .ok (.aload_n 0, 1) := by decide +kernel
theorem dX35_init_143 : decode cX35_init 143 = .ok (.bipush 32, 2) := by decide +kernel
theorem dX35_init_145 : decode cX35_init 145 = .ok (.newarray .int, 2) := by decide +kernel
theorem dX35_init_147 : decode cX35_init 147 = .ok (.putfield 71, 3) := by decide +kernel
theorem dX35_init_150 : decode cX35_init 150 = .ok (.aload_n 0, 1) := by decide +kernel
theorem dX35_init_151 : decode cX35_init 151 = .ok (.bipush 16, 2) := by decide +kernel
theorem dX35_init_153 : decode cX35_init 153 = .ok (.newarray .int, 2) := by decide +kernel
theorem dX35_init_155 : decode cX35_init 155 = .ok (.putfield 74, 3) := by decide +kernel
theorem dX35_init_158 : decode cX35_init 158 = .ok (.return_, 1) := by decide +kernel
abbrev cX35_fact : ByteArray := prog_58_method_8_code
def yX35_fact : MethodName := ⟨RX35, "fact", "(III)I"⟩
theorem dX35_fact_0 : decode cX35_fact 0 = .ok (.iload_n 1, 1) := by decide +kernel
theorem dX35_fact_1 : decode cX35_fact 1 = .ok (.iload_n 2, 1) := by decide +kernel
theorem dX35_fact_2 : decode cX35_fact 2 = .ok (.iload_n 3, 1) := by decide +kernel
theorem dX35_fact_3 : decode cX35_fact 3 = .ok (.invokestatic 88, 3) := by decide +kernel
theorem dX35_fact_6 : decode cX35_fact 6 = .ok (.ifCond .ne 5, 3) := by decide +kernel
theorem dX35_fact_9 : decode cX35_fact 9 = .ok (.iconst (-1), 1) := by decide +kernel
theorem dX35_fact_10 : decode cX35_fact 10 = .ok (.ireturn, 1) := by decide +kernel
theorem dX35_fact_11 : decode cX35_fact 11 = .ok (.aload_n 0, 1) := by decide +kernel
theorem dX35_fact_12 : decode cX35_fact 12 = .ok (.iload_n 1, 1) := by decide +kernel
theorem dX35_fact_13 : decode cX35_fact 13 = .ok (.iload_n 2, 1) := by decide +kernel
theorem dX35_fact_14 : decode cX35_fact 14 = .ok (.iload_n 3, 1) := by decide +kernel
theorem dX35_fact_15 : decode cX35_fact 15 = .ok (.invokestatic 92, 3) := by decide +kernel
theorem dX35_fact_18 : decode cX35_fact 18 = .ok (.iconst 1, 1) := by decide +kernel
theorem dX35_fact_19 : decode cX35_fact 19 = .ok (.invokevirtual 96, 3) := by decide +kernel
theorem dX35_fact_22 : decode cX35_fact 22 = .ok (.ireturn, 1) := by decide +kernel
abbrev cX35_isFact : ByteArray := prog_58_method_5_code
def yX35_isFact : MethodName := ⟨RX35, "isFact", "(III)Z"⟩
theorem dX35_isFact_0 : decode cX35_isFact 0 = .ok (.iload_n 0, 1) := by decide +kernel
theorem dX35_isFact_1 : decode cX35_isFact 1 = .ok (.invokestatic 77, 3) := by decide +kernel
theorem dX35_isFact_4 : decode cX35_isFact 4 = .ok (.ifCond .eq 21, 3) := by decide +kernel
theorem dX35_isFact_7 : decode cX35_isFact 7 = .ok (.iload_n 1, 1) := by decide +kernel
theorem dX35_isFact_8 : decode cX35_isFact 8 = .ok (.invokestatic 81, 3) := by decide +kernel
theorem dX35_isFact_11 : decode cX35_isFact 11 = .ok (.ifCond .eq 14, 3) := by decide +kernel
theorem dX35_isFact_14 : decode cX35_isFact 14 = .ok (.iload_n 2, 1) := by decide +kernel
theorem dX35_isFact_15 : decode cX35_isFact 15 = .ok (.invokestatic 81, 3) := by decide +kernel
theorem dX35_isFact_18 : decode cX35_isFact 18 = .ok (.ifCond .eq 7, 3) := by decide +kernel
theorem dX35_isFact_21 : decode cX35_isFact 21 = .ok (.iconst 1, 1) := by decide +kernel
theorem dX35_isFact_22 : decode cX35_isFact 22 = .ok (.goto 4, 3) := by decide +kernel
theorem dX35_isFact_25 : decode cX35_isFact 25 = .ok (.iconst 0, 1) := by decide +kernel
theorem dX35_isFact_26 : decode cX35_isFact 26 = .ok (.ireturn, 1) := by decide +kernel
abbrev cX35_isName : ByteArray := prog_58_method_2_code
def yX35_isName : MethodName := ⟨RX35, "isName", "(I)Z"⟩
theorem dX35_isName_0 : decode cX35_isName 0 = .ok (.iload_n 0, 1) := by decide +kernel
theorem dX35_isName_1 : decode cX35_isName 1 = .ok (.ifCond .lt 13, 3) := by decide +kernel
theorem dX35_isName_4 : decode cX35_isName 4 = .ok (.iload_n 0, 1) := by decide +kernel
theorem dX35_isName_5 : decode cX35_isName 5 = .ok (.bipush 16, 2) := by decide +kernel
theorem dX35_isName_7 : decode cX35_isName 7 = .ok (.if_icmp .ge 7, 3) := by decide +kernel
theorem dX35_isName_10 : decode cX35_isName 10 = .ok (.iconst 1, 1) := by decide +kernel
theorem dX35_isName_11 : decode cX35_isName 11 = .ok (.goto 4, 3) := by decide +kernel
theorem dX35_isName_14 : decode cX35_isName 14 = .ok (.iconst 0, 1) := by decide +kernel
theorem dX35_isName_15 : decode cX35_isName 15 = .ok (.ireturn, 1) := by decide +kernel
abbrev cX35_isNumber : ByteArray := prog_58_method_3_code
def yX35_isNumber : MethodName := ⟨RX35, "isNumber", "(I)Z"⟩
theorem dX35_isNumber_0 : decode cX35_isNumber 0 = .ok (.iload_n 0, 1) := by decide +kernel
theorem dX35_isNumber_1 : decode cX35_isNumber 1 = .ok (.ifCond .lt 13, 3) := by decide +kernel
theorem dX35_isNumber_4 : decode cX35_isNumber 4 = .ok (.iload_n 0, 1) := by decide +kernel
theorem dX35_isNumber_5 : decode cX35_isNumber 5 = .ok (.bipush 32, 2) := by decide +kernel
theorem dX35_isNumber_7 : decode cX35_isNumber 7 = .ok (.if_icmp .ge 7, 3) := by decide +kernel
theorem dX35_isNumber_10 : decode cX35_isNumber 10 = .ok (.iconst 1, 1) := by decide +kernel
theorem dX35_isNumber_11 : decode cX35_isNumber 11 = .ok (.goto 4, 3) := by decide +kernel
theorem dX35_isNumber_14 : decode cX35_isNumber 14 = .ok (.iconst 0, 1) := by decide +kernel
theorem dX35_isNumber_15 : decode cX35_isNumber 15 = .ok (.ireturn, 1) := by decide +kernel
abbrev cX35_code : ByteArray := prog_58_method_6_code
def yX35_code : MethodName := ⟨RX35, "code", "(III)I"⟩
theorem dX35_code_0 : decode cX35_code 0 = .ok (.iload_n 0, 1) := by decide +kernel
theorem dX35_code_1 : decode cX35_code 1 = .ok (.bipush 10, 2) := by decide +kernel
theorem dX35_code_3 : decode cX35_code 3 = .ok (.ishl, 1) := by decide +kernel
theorem dX35_code_4 : decode cX35_code 4 = .ok (.iload_n 1, 1) := by decide +kernel
theorem dX35_code_5 : decode cX35_code 5 = .ok (.iconst 5, 1) := by decide +kernel
theorem dX35_code_6 : decode cX35_code 6 = .ok (.ishl, 1) := by decide +kernel
theorem dX35_code_7 : decode cX35_code 7 = .ok (.ior, 1) := by decide +kernel
theorem dX35_code_8 : decode cX35_code 8 = .ok (.iload_n 2, 1) := by decide +kernel
theorem dX35_code_9 : decode cX35_code 9 = .ok (.ior, 1) := by decide +kernel
theorem dX35_code_10 : decode cX35_code 10 = .ok (.ireturn, 1) := by decide +kernel
abbrev cX35_change : ByteArray := prog_58_method_10_code
def yX35_change : MethodName := ⟨RX35, "change", "(IZ)I"⟩
theorem dX35_change_0 : decode cX35_change 0 = .ok (.aload_n 0, 1) := by decide +kernel
theorem dX35_change_1 : decode cX35_change 1 = .ok (.getfield 10, 3) := by decide +kernel
theorem dX35_change_4 : decode cX35_change 4 = .ok (.iload_n 1, 1) := by decide +kernel
theorem dX35_change_5 : decode cX35_change 5 = .ok (.invokevirtual 100, 3) := by decide +kernel
theorem dX35_change_8 : decode cX35_change 8 = .ok (.iload_n 2, 1) := by decide +kernel
theorem dX35_change_9 : decode cX35_change 9 = .ok (.if_icmp .ne 5, 3) := by decide +kernel
theorem dX35_change_12 : decode cX35_change 12 = .ok (.iconst 0, 1) := by decide +kernel
theorem dX35_change_13 : decode cX35_change 13 = .ok (.ireturn, 1) := by decide +kernel
theorem dX35_change_14 : decode cX35_change 14 = .ok (.aload_n 0, 1) := by decide +kernel
theorem dX35_change_15 : decode cX35_change 15 = .ok (.getfield 10, 3) := by decide +kernel
theorem dX35_change_18 : decode cX35_change 18 = .ok (.iload_n 1, 1) := by decide +kernel
theorem dX35_change_19 : decode cX35_change 19 = .ok (.iload_n 2, 1) := by decide +kernel
theorem dX35_change_20 : decode cX35_change 20 = .ok (.invokevirtual 103, 3) := by decide +kernel
theorem dX35_change_23 : decode cX35_change 23 = .ok (.aload_n 0, 1) := by decide +kernel
theorem dX35_change_24 : decode cX35_change 24 = .ok (.iconst 0, 1) := by decide +kernel
theorem dX35_change_25 : decode cX35_change 25 = .ok (.putfield 107, 3) := by decide +kernel
theorem dX35_change_28 : decode cX35_change 28 = .ok (.iconst 1, 1) := by decide +kernel
theorem dX35_change_29 : decode cX35_change 29 = .ok (.ireturn, 1) := by decide +kernel
abbrev cX35_remove : ByteArray := prog_58_method_9_code
def yX35_remove : MethodName := ⟨RX35, "remove", "(III)I"⟩
theorem dX35_remove_0 : decode cX35_remove 0 = .ok (.iload_n 1, 1) := by decide +kernel
theorem dX35_remove_1 : decode cX35_remove 1 = .ok (.iload_n 2, 1) := by decide +kernel
theorem dX35_remove_2 : decode cX35_remove 2 = .ok (.iload_n 3, 1) := by decide +kernel
theorem dX35_remove_3 : decode cX35_remove 3 = .ok (.invokestatic 88, 3) := by decide +kernel
theorem dX35_remove_6 : decode cX35_remove 6 = .ok (.ifCond .ne 5, 3) := by decide +kernel
theorem dX35_remove_9 : decode cX35_remove 9 = .ok (.iconst (-1), 1) := by decide +kernel
theorem dX35_remove_10 : decode cX35_remove 10 = .ok (.ireturn, 1) := by decide +kernel
theorem dX35_remove_11 : decode cX35_remove 11 = .ok (.aload_n 0, 1) := by decide +kernel
theorem dX35_remove_12 : decode cX35_remove 12 = .ok (.iload_n 1, 1) := by decide +kernel
theorem dX35_remove_13 : decode cX35_remove 13 = .ok (.iload_n 2, 1) := by decide +kernel
theorem dX35_remove_14 : decode cX35_remove 14 = .ok (.iload_n 3, 1) := by decide +kernel
theorem dX35_remove_15 : decode cX35_remove 15 = .ok (.invokestatic 92, 3) := by decide +kernel
theorem dX35_remove_18 : decode cX35_remove 18 = .ok (.iconst 0, 1) := by decide +kernel
theorem dX35_remove_19 : decode cX35_remove 19 = .ok (.invokevirtual 96, 3) := by decide +kernel
theorem dX35_remove_22 : decode cX35_remove 22 = .ok (.ireturn, 1) := by decide +kernel
abbrev cX35_holds : ByteArray := prog_58_method_36_code
def yX35_holds : MethodName := ⟨RX35, "holds", "(III)I"⟩
theorem dX35_holds_0 : decode cX35_holds 0 = .ok (.iload_n 1, 1) := by decide +kernel
theorem dX35_holds_1 : decode cX35_holds 1 = .ok (.iload_n 2, 1) := by decide +kernel
theorem dX35_holds_2 : decode cX35_holds 2 = .ok (.iload_n 3, 1) := by decide +kernel
theorem dX35_holds_3 : decode cX35_holds 3 = .ok (.invokestatic 88, 3) := by decide +kernel
theorem dX35_holds_6 : decode cX35_holds 6 = .ok (.ifCond .ne 5, 3) := by decide +kernel
theorem dX35_holds_9 : decode cX35_holds 9 = .ok (.iconst (-1), 1) := by decide +kernel
theorem dX35_holds_10 : decode cX35_holds 10 = .ok (.ireturn, 1) := by decide +kernel
theorem dX35_holds_11 : decode cX35_holds 11 = .ok (.aload_n 0, 1) := by decide +kernel
theorem dX35_holds_12 : decode cX35_holds 12 = .ok (.invokevirtual 271, 3) := by decide +kernel
theorem dX35_holds_15 : decode cX35_holds 15 = .ok (.iload_n 1, 1) := by decide +kernel
theorem dX35_holds_16 : decode cX35_holds 16 = .ok (.iload_n 2, 1) := by decide +kernel
theorem dX35_holds_17 : decode cX35_holds 17 = .ok (.iload_n 3, 1) := by decide +kernel
theorem dX35_holds_18 : decode cX35_holds 18 = .ok (.invokestatic 92, 3) := by decide +kernel
theorem dX35_holds_21 : decode cX35_holds 21 = .ok (.istore 4, 2) := by decide +kernel
theorem dX35_holds_23 : decode cX35_holds 23 = .ok (.aload_n 0, 1) := by decide +kernel
theorem dX35_holds_24 : decode cX35_holds 24 = .ok (.getfield 10, 3) := by decide +kernel
theorem dX35_holds_27 : decode cX35_holds 27 = .ok (.iload 4, 2) := by decide +kernel
theorem dX35_holds_29 : decode cX35_holds 29 = .ok (.invokevirtual 100, 3) := by decide +kernel
theorem dX35_holds_32 : decode cX35_holds 32 = .ok (.ifCond .eq 7, 3) := by decide +kernel
theorem dX35_holds_35 : decode cX35_holds 35 = .ok (.iconst 1, 1) := by decide +kernel
theorem dX35_holds_36 : decode cX35_holds 36 = .ok (.goto 20, 3) := by decide +kernel
theorem dX35_holds_39 : decode cX35_holds 39 = .ok (.aload_n 0, 1) := by decide +kernel
theorem dX35_holds_40 : decode cX35_holds 40 = .ok (.getfield 34, 3) := by decide +kernel
theorem dX35_holds_43 : decode cX35_holds 43 = .ok (.iload 4, 2) := by decide +kernel
theorem dX35_holds_45 : decode cX35_holds 45 = .ok (.invokevirtual 100, 3) := by decide +kernel
theorem dX35_holds_48 : decode cX35_holds 48 = .ok (.ifCond .eq 7, 3) := by decide +kernel
theorem dX35_holds_51 : decode cX35_holds 51 = .ok (.iconst 2, 1) := by decide +kernel
theorem dX35_holds_52 : decode cX35_holds 52 = .ok (.goto 4, 3) := by decide +kernel
theorem dX35_holds_55 : decode cX35_holds 55 = .ok (.iconst 0, 1) := by decide +kernel
theorem dX35_holds_56 : decode cX35_holds 56 = .ok (.ireturn, 1) := by decide +kernel
abbrev cX35_find : ByteArray := prog_58_method_29_code
def yX35_find : MethodName := ⟨RX35, "find", "()V"⟩
theorem dX35_find_0 : decode cX35_find 0 = .ok (.aload_n 0, 1) := by decide +kernel
theorem dX35_find_1 : decode cX35_find 1 = .ok (.getfield 107, 3) := by decide +kernel
theorem dX35_find_4 : decode cX35_find 4 = .ok (.ifCond .eq 4, 3) := by decide +kernel
theorem dX35_find_7 : decode cX35_find 7 = .ok (.return_, 1) := by decide +kernel
theorem dX35_find_8 : decode cX35_find 8 = .ok (.aload_n 0, 1) := by decide +kernel
theorem dX35_find_9 : decode cX35_find 9 = .ok (.iconst 1, 1) := by decide +kernel
theorem dX35_find_10 : decode cX35_find 10 = .ok (.putfield 107, 3) := by decide +kernel
theorem dX35_find_13 : decode cX35_find 13 = .ok (.aload_n 0, 1) := by decide +kernel
theorem dX35_find_14 : decode cX35_find 14 = .ok (.getfield 34, 3) := by decide +kernel
theorem dX35_find_17 : decode cX35_find 17 = .ok (.invokevirtual 224, 3) := by decide +kernel
theorem dX35_find_20 : decode cX35_find 20 = .ok (.aload_n 0, 1) := by decide +kernel
theorem dX35_find_21 : decode cX35_find 21 = .ok (.getfield 34, 3) := by decide +kernel
theorem dX35_find_24 : decode cX35_find 24 = .ok (.aload_n 0, 1) := by decide +kernel
theorem dX35_find_25 : decode cX35_find 25 = .ok (.getfield 10, 3) := by decide +kernel
theorem dX35_find_28 : decode cX35_find 28 = .ok (.invokevirtual 227, 3) := by decide +kernel
theorem dX35_find_31 : decode cX35_find 31 = .ok (.aload_n 0, 1) := by decide +kernel
theorem dX35_find_32 : decode cX35_find 32 = .ok (.iconst 0, 1) := by decide +kernel
theorem dX35_find_33 : decode cX35_find 33 = .ok (.putfield 231, 3) := by decide +kernel
theorem dX35_find_36 : decode cX35_find 36 = .ok (.iconst 0, 1) := by decide +kernel
theorem dX35_find_37 : decode cX35_find 37 = .ok (.istore_n 1, 1) := by decide +kernel
theorem dX35_find_38 : decode cX35_find 38 = .ok (.iload_n 1, 1) := by decide +kernel
theorem dX35_find_39 : decode cX35_find 39 = .ok (.sipush 16384, 3) := by decide +kernel
theorem dX35_find_42 : decode cX35_find 42 = .ok (.if_icmp .ge 39, 3) := by decide +kernel
theorem dX35_find_45 : decode cX35_find 45 = .ok (.aload_n 0, 1) := by decide +kernel
theorem dX35_find_46 : decode cX35_find 46 = .ok (.getfield 37, 3) := by decide +kernel
theorem dX35_find_49 : decode cX35_find 49 = .ok (.iload_n 1, 1) := by decide +kernel
theorem dX35_find_50 : decode cX35_find 50 = .ok (.aload_n 0, 1) := by decide +kernel
theorem dX35_find_51 : decode cX35_find 51 = .ok (.getfield 10, 3) := by decide +kernel
theorem dX35_find_54 : decode cX35_find 54 = .ok (.iload_n 1, 1) := by decide +kernel
theorem dX35_find_55 : decode cX35_find 55 = .ok (.invokevirtual 100, 3) := by decide +kernel
theorem dX35_find_58 : decode cX35_find 58 = .ok (.ifCond .eq 7, 3) := by decide +kernel
theorem dX35_find_61 : decode cX35_find 61 = .ok (.iconst 0, 1) := by decide +kernel
theorem dX35_find_62 : decode cX35_find 62 = .ok (.goto 5, 3) := by decide +kernel
theorem dX35_find_65 : decode cX35_find 65 = .ok (.bipush (-2), 2) := by decide +kernel
theorem dX35_find_67 : decode cX35_find 67 = .ok (.iastore, 1) := by decide +kernel
theorem dX35_find_68 : decode cX35_find 68 = .ok (.aload_n 0, 1) := by decide +kernel
theorem dX35_find_69 : decode cX35_find 69 = .ok (.getfield 40, 3) := by decide +kernel
theorem dX35_find_72 : decode cX35_find 72 = .ok (.iload_n 1, 1) := by decide +kernel
theorem dX35_find_73 : decode cX35_find 73 = .ok (.iconst 0, 1) := by decide +kernel
theorem dX35_find_74 : decode cX35_find 74 = .ok (.iastore, 1) := by decide +kernel
theorem dX35_find_75 : decode cX35_find 75 = .ok (.iinc 1 1, 3) := by decide +kernel
theorem dX35_find_78 : decode cX35_find 78 = .ok (.goto (-40), 3) := by decide +kernel
theorem dX35_find_81 : decode cX35_find 81 = .ok (.iconst 0, 1) := by decide +kernel
theorem dX35_find_82 : decode cX35_find 82 = .ok (.istore_n 1, 1) := by decide +kernel
theorem dX35_find_83 : decode cX35_find 83 = .ok (.iload_n 1, 1) := by decide +kernel
theorem dX35_find_84 : decode cX35_find 84 = .ok (.aload_n 0, 1) := by decide +kernel
theorem dX35_find_85 : decode cX35_find 85 = .ok (.getfield 19, 3) := by decide +kernel
theorem dX35_find_88 : decode cX35_find 88 = .ok (.invokevirtual 84, 3) := by decide +kernel
theorem dX35_find_91 : decode cX35_find 91 = .ok (.if_icmp .ge 29, 3) := by decide +kernel
theorem dX35_find_94 : decode cX35_find 94 = .ok (.aload_n 0, 1) := by decide +kernel
theorem dX35_find_95 : decode cX35_find 95 = .ok (.getfield 30, 3) := by decide +kernel
theorem dX35_find_98 : decode cX35_find 98 = .ok (.iload_n 1, 1) := by decide +kernel
theorem dX35_find_99 : decode cX35_find 99 = .ok (.aload_n 0, 1) := by decide +kernel
theorem dX35_find_100 : decode cX35_find 100 = .ok (.getfield 19, 3) := by decide +kernel
theorem dX35_find_103 : decode cX35_find 103 = .ok (.iload_n 1, 1) := by decide +kernel
theorem dX35_find_104 : decode cX35_find 104 = .ok (.invokevirtual 128, 3) := by decide +kernel
theorem dX35_find_107 : decode cX35_find 107 = .ok (.checkcast 114, 3) := by decide +kernel
theorem dX35_find_110 : decode cX35_find 110 = .ok (.invokevirtual 150, 3) := by decide +kernel
theorem dX35_find_113 : decode cX35_find 113 = .ok (.bastore, 1) := by decide +kernel
theorem dX35_find_114 : decode cX35_find 114 = .ok (.iinc 1 1, 3) := by decide +kernel
theorem dX35_find_117 : decode cX35_find 117 = .ok (.goto (-34), 3) := by decide +kernel
theorem dX35_find_120 : decode cX35_find 120 = .ok (.aload_n 0, 1) := by decide +kernel
theorem dX35_find_121 : decode cX35_find 121 = .ok (.invokevirtual 234, 3) := by decide +kernel
theorem dX35_find_124 : decode cX35_find 124 = .ok (.aload_n 0, 1) := by decide +kernel
theorem dX35_find_125 : decode cX35_find 125 = .ok (.iconst 0, 1) := by decide +kernel
theorem dX35_find_126 : decode cX35_find 126 = .ok (.putfield 237, 3) := by decide +kernel
theorem dX35_find_129 : decode cX35_find 129 = .ok (.aload_n 0, 1) := by decide +kernel
theorem dX35_find_130 : decode cX35_find 130 = .ok (.getfield 167, 3) := by decide +kernel
theorem dX35_find_133 : decode cX35_find 133 = .ok (.iconst (-1), 1) := by decide +kernel
theorem dX35_find_134 : decode cX35_find 134 = .ok (.if_icmp .eq 4, 3) := by decide +kernel
theorem dX35_find_137 : decode cX35_find 137 = .ok (.return_, 1) := by decide +kernel
theorem dX35_find_138 : decode cX35_find 138 = .ok (.aload_n 0, 1) := by decide +kernel
theorem dX35_find_139 : decode cX35_find 139 = .ok (.lconst 0, 1) := by decide +kernel
theorem dX35_find_140 : decode cX35_find 140 = .ok (.putfield 240, 3) := by decide +kernel
theorem dX35_find_143 : decode cX35_find 143 = .ok (.iconst 0, 1) := by decide +kernel
theorem dX35_find_144 : decode cX35_find 144 = .ok (.istore_n 1, 1) := by decide +kernel
theorem dX35_find_145 : decode cX35_find 145 = .ok (.iload_n 1, 1) := by decide +kernel
theorem dX35_find_146 : decode cX35_find 146 = .ok (.bipush 16, 2) := by decide +kernel
theorem dX35_find_148 : decode cX35_find 148 = .ok (.if_icmp .ge 16, 3) := by decide +kernel
theorem dX35_find_151 : decode cX35_find 151 = .ok (.aload_n 0, 1) := by decide +kernel
theorem dX35_find_152 : decode cX35_find 152 = .ok (.getfield 74, 3) := by decide +kernel
theorem dX35_find_155 : decode cX35_find 155 = .ok (.iload_n 1, 1) := by decide +kernel
theorem dX35_find_156 : decode cX35_find 156 = .ok (.iconst 0, 1) := by decide +kernel
theorem dX35_find_157 : decode cX35_find 157 = .ok (.iastore, 1) := by decide +kernel
theorem dX35_find_158 : decode cX35_find 158 = .ok (.iinc 1 1, 3) := by decide +kernel
theorem dX35_find_161 : decode cX35_find 161 = .ok (.goto (-16), 3) := by decide +kernel
theorem dX35_find_164 : decode cX35_find 164 = .ok (.aload_n 0, 1) := by decide +kernel
theorem dX35_find_165 : decode cX35_find 165 = .ok (.getfield 10, 3) := by decide +kernel
theorem dX35_find_168 : decode cX35_find 168 = .ok (.iconst 0, 1) := by decide +kernel
theorem dX35_find_169 : decode cX35_find 169 = .ok (.invokevirtual 201, 3) := by decide +kernel
theorem dX35_find_172 : decode cX35_find 172 = .ok (.istore_n 1, 1) := by decide +kernel
theorem dX35_find_173 : decode cX35_find 173 = .ok (.iload_n 1, 1) := by decide +kernel
theorem dX35_find_174 : decode cX35_find 174 = .ok (.ifCond .lt 30, 3) := by decide +kernel
theorem dX35_find_177 : decode cX35_find 177 = .ok (.aload_n 0, 1) := by decide +kernel
theorem dX35_find_178 : decode cX35_find 178 = .ok (.getfield 74, 3) := by decide +kernel
theorem dX35_find_181 : decode cX35_find 181 = .ok (.iload_n 1, 1) := by decide +kernel
theorem dX35_find_182 : decode cX35_find 182 = .ok (.bipush 10, 2) := by decide +kernel
theorem dX35_find_184 : decode cX35_find 184 = .ok (.ishr, 1) := by decide +kernel
theorem dX35_find_185 : decode cX35_find 185 = .ok (.dup2, 1) := by decide +kernel
theorem dX35_find_186 : decode cX35_find 186 = .ok (.iaload, 1) := by decide +kernel
theorem dX35_find_187 : decode cX35_find 187 = .ok (.iconst 1, 1) := by decide +kernel
theorem dX35_find_188 : decode cX35_find 188 = .ok (.iadd, 1) := by decide +kernel
theorem dX35_find_189 : decode cX35_find 189 = .ok (.iastore, 1) := by decide +kernel
theorem dX35_find_190 : decode cX35_find 190 = .ok (.aload_n 0, 1) := by decide +kernel
theorem dX35_find_191 : decode cX35_find 191 = .ok (.getfield 10, 3) := by decide +kernel
theorem dX35_find_194 : decode cX35_find 194 = .ok (.iload_n 1, 1) := by decide +kernel
theorem dX35_find_195 : decode cX35_find 195 = .ok (.iconst 1, 1) := by decide +kernel
theorem dX35_find_196 : decode cX35_find 196 = .ok (.iadd, 1) := by decide +kernel
theorem dX35_find_197 : decode cX35_find 197 = .ok (.invokevirtual 201, 3) := by decide +kernel
theorem dX35_find_200 : decode cX35_find 200 = .ok (.istore_n 1, 1) := by decide +kernel
theorem dX35_find_201 : decode cX35_find 201 = .ok (.goto (-28), 3) := by decide +kernel
theorem dX35_find_204 : decode cX35_find 204 = .ok (.iconst 0, 1) := by decide +kernel
theorem dX35_find_205 : decode cX35_find 205 = .ok (.istore_n 1, 1) := by decide +kernel
theorem dX35_find_206 : decode cX35_find 206 = .ok (.iload_n 1, 1) := by decide +kernel
theorem dX35_find_207 : decode cX35_find 207 = .ok (.bipush 16, 2) := by decide +kernel
theorem dX35_find_209 : decode cX35_find 209 = .ok (.if_icmp .gt 21, 3) := by decide +kernel
theorem dX35_find_212 : decode cX35_find 212 = .ok (.aload_n 0, 1) := by decide +kernel
theorem dX35_find_213 : decode cX35_find 213 = .ok (.getfield 237, 3) := by decide +kernel
theorem dX35_find_216 : decode cX35_find 216 = .ok (.ifCond .ne 14, 3) := by decide +kernel
theorem dX35_find_219 : decode cX35_find 219 = .ok (.aload_n 0, 1) := by decide +kernel
theorem dX35_find_220 : decode cX35_find 220 = .ok (.iload_n 1, 1) := by decide +kernel
theorem dX35_find_221 : decode cX35_find 221 = .ok (.invokevirtual 244, 3) := by decide +kernel
theorem dX35_find_224 : decode cX35_find 224 = .ok (.iinc 1 1, 3) := by decide +kernel
theorem dX35_find_227 : decode cX35_find 227 = .ok (.goto (-21), 3) := by decide +kernel
theorem dX35_find_230 : decode cX35_find 230 = .ok (.aload_n 0, 1) := by decide +kernel
theorem dX35_find_231 : decode cX35_find 231 = .ok (.iconst (-1), 1) := by decide +kernel
theorem dX35_find_232 : decode cX35_find 232 = .ok (.invokevirtual 247, 3) := by decide +kernel
theorem dX35_find_235 : decode cX35_find 235 = .ok (.aload_n 0, 1) := by decide +kernel
theorem dX35_find_236 : decode cX35_find 236 = .ok (.getfield 237, 3) := by decide +kernel
theorem dX35_find_239 : decode cX35_find 239 = .ok (.ifCond .eq 8, 3) := by decide +kernel
theorem dX35_find_242 : decode cX35_find 242 = .ok (.aload_n 0, 1) := by decide +kernel
theorem dX35_find_243 : decode cX35_find 243 = .ok (.invokevirtual 250, 3) := by decide +kernel
theorem dX35_find_246 : decode cX35_find 246 = .ok (.return_, 1) := by decide +kernel
theorem dX35_find_247 : decode cX35_find 247 = .ok (.iconst 0, 1) := by decide +kernel
theorem dX35_find_248 : decode cX35_find 248 = .ok (.istore_n 1, 1) := by decide +kernel
theorem dX35_find_249 : decode cX35_find 249 = .ok (.iload_n 1, 1) := by decide +kernel
theorem dX35_find_250 : decode cX35_find 250 = .ok (.aload_n 0, 1) := by decide +kernel
theorem dX35_find_251 : decode cX35_find 251 = .ok (.getfield 19, 3) := by decide +kernel
theorem dX35_find_254 : decode cX35_find 254 = .ok (.invokevirtual 84, 3) := by decide +kernel
theorem dX35_find_257 : decode cX35_find 257 = .ok (.if_icmp .ge 33, 3) := by decide +kernel
theorem dX35_find_260 : decode cX35_find 260 = .ok (.aload_n 0, 1) := by decide +kernel
theorem dX35_find_261 : decode cX35_find 261 = .ok (.getfield 30, 3) := by decide +kernel
theorem dX35_find_264 : decode cX35_find 264 = .ok (.iload_n 1, 1) := by decide +kernel
theorem dX35_find_265 : decode cX35_find 265 = .ok (.baload, 1) := by decide +kernel
theorem dX35_find_266 : decode cX35_find 266 = .ok (.ifCond .eq 18, 3) := by decide +kernel
theorem dX35_find_269 : decode cX35_find 269 = .ok (.aload_n 0, 1) := by decide +kernel
theorem dX35_find_270 : decode cX35_find 270 = .ok (.aload_n 0, 1) := by decide +kernel
theorem dX35_find_271 : decode cX35_find 271 = .ok (.getfield 19, 3) := by decide +kernel
theorem dX35_find_274 : decode cX35_find 274 = .ok (.iload_n 1, 1) := by decide +kernel
theorem dX35_find_275 : decode cX35_find 275 = .ok (.invokevirtual 128, 3) := by decide +kernel
theorem dX35_find_278 : decode cX35_find 278 = .ok (.checkcast 114, 3) := by decide +kernel
theorem dX35_find_281 : decode cX35_find 281 = .ok (.invokevirtual 253, 3) := by decide +kernel
theorem dX35_find_284 : decode cX35_find 284 = .ok (.iinc 1 1, 3) := by decide +kernel
theorem dX35_find_287 : decode cX35_find 287 = .ok (.goto (-38), 3) := by decide +kernel
theorem dX35_find_290 : decode cX35_find 290 = .ok (.return_, 1) := by decide +kernel
abbrev cX35_stratify : ByteArray := prog_58_method_19_code
def yX35_stratify : MethodName := ⟨RX35, "stratify", "()V"⟩
theorem dX35_stratify_0 : decode cX35_stratify 0 = .ok (.aload_n 0, 1) := by decide +kernel
theorem dX35_stratify_1 : decode cX35_stratify 1 = .ok (.invokevirtual 164, 3) := by decide +kernel
theorem dX35_stratify_4 : decode cX35_stratify 4 = .ok (.aload_n 0, 1) := by decide +kernel
theorem dX35_stratify_5 : decode cX35_stratify 5 = .ok (.iconst (-1), 1) := by decide +kernel
theorem dX35_stratify_6 : decode cX35_stratify 6 = .ok (.putfield 167, 3) := by decide +kernel
theorem dX35_stratify_9 : decode cX35_stratify 9 = .ok (.iconst 0, 1) := by decide +kernel
theorem dX35_stratify_10 : decode cX35_stratify 10 = .ok (.istore_n 1, 1) := by decide +kernel
theorem dX35_stratify_11 : decode cX35_stratify 11 = .ok (.iload_n 1, 1) := by decide +kernel
theorem dX35_stratify_12 : decode cX35_stratify 12 = .ok (.aload_n 0, 1) := by decide +kernel
theorem dX35_stratify_13 : decode cX35_stratify 13 = .ok (.getfield 19, 3) := by decide +kernel
theorem dX35_stratify_16 : decode cX35_stratify 16 = .ok (.invokevirtual 84, 3) := by decide +kernel
theorem dX35_stratify_19 : decode cX35_stratify 19 = .ok (.if_icmp .ge 154, 3) := by decide +kernel
theorem dX35_stratify_22 : decode cX35_stratify 22 = .ok (.aload_n 0, 1) := by decide +kernel
theorem dX35_stratify_23 : decode cX35_stratify 23 = .ok (.getfield 30, 3) := by decide +kernel
theorem dX35_stratify_26 : decode cX35_stratify 26 = .ok (.iload_n 1, 1) := by decide +kernel
theorem dX35_stratify_27 : decode cX35_stratify 27 = .ok (.baload, 1) := by decide +kernel
theorem dX35_stratify_28 : decode cX35_stratify 28 = .ok (.ifCond .ne 6, 3) := by decide +kernel
theorem dX35_stratify_31 : decode cX35_stratify 31 = .ok (.goto 136, 3) := by decide +kernel
theorem dX35_stratify_34 : decode cX35_stratify 34 = .ok (.aload_n 0, 1) := by decide +kernel
theorem dX35_stratify_35 : decode cX35_stratify 35 = .ok (.getfield 19, 3) := by decide +kernel
theorem dX35_stratify_38 : decode cX35_stratify 38 = .ok (.iload_n 1, 1) := by decide +kernel
theorem dX35_stratify_39 : decode cX35_stratify 39 = .ok (.invokevirtual 128, 3) := by decide +kernel
theorem dX35_stratify_42 : decode cX35_stratify 42 = .ok (.checkcast 114, 3) := by decide +kernel
theorem dX35_stratify_45 : decode cX35_stratify 45 = .ok (.astore_n 2, 1) := by decide +kernel
theorem dX35_stratify_46 : decode cX35_stratify 46 = .ok (.aload_n 2, 1) := by decide +kernel
theorem dX35_stratify_47 : decode cX35_stratify 47 = .ok (.getfield 157, 3) := by decide +kernel
theorem dX35_stratify_50 : decode cX35_stratify 50 = .ok (.invokevirtual 161, 3) := by decide +kernel
theorem dX35_stratify_53 : decode cX35_stratify 53 = .ok (.istore_n 3, 1) := by decide +kernel
theorem dX35_stratify_54 : decode cX35_stratify 54 = .ok (.iconst 0, 1) := by decide +kernel
theorem dX35_stratify_55 : decode cX35_stratify 55 = .ok (.istore 4, 2) := by decide +kernel
theorem dX35_stratify_57 : decode cX35_stratify 57 = .ok (.iload 4, 2) := by decide +kernel
theorem dX35_stratify_59 : decode cX35_stratify 59 = .ok (.aload_n 2, 1) := by decide +kernel
theorem dX35_stratify_60 : decode cX35_stratify 60 = .ok (.getfield 131, 3) := by decide +kernel
theorem dX35_stratify_63 : decode cX35_stratify 63 = .ok (.invokevirtual 84, 3) := by decide +kernel
theorem dX35_stratify_66 : decode cX35_stratify 66 = .ok (.if_icmp .ge 101, 3) := by decide +kernel
theorem dX35_stratify_69 : decode cX35_stratify 69 = .ok (.aload_n 2, 1) := by decide +kernel
theorem dX35_stratify_70 : decode cX35_stratify 70 = .ok (.getfield 131, 3) := by decide +kernel
theorem dX35_stratify_73 : decode cX35_stratify 73 = .ok (.iload 4, 2) := by decide +kernel
theorem dX35_stratify_75 : decode cX35_stratify 75 = .ok (.invokevirtual 128, 3) := by decide +kernel
theorem dX35_stratify_78 : decode cX35_stratify 78 = .ok (.checkcast 116, 3) := by decide +kernel
theorem dX35_stratify_81 : decode cX35_stratify 81 = .ok (.astore 5, 2) := by decide +kernel
theorem dX35_stratify_83 : decode cX35_stratify 83 = .ok (.aload 5, 2) := by decide +kernel
theorem dX35_stratify_85 : decode cX35_stratify 85 = .ok (.invokevirtual 154, 3) := by decide +kernel
theorem dX35_stratify_88 : decode cX35_stratify 88 = .ok (.iconst 2, 1) := by decide +kernel
theorem dX35_stratify_89 : decode cX35_stratify 89 = .ok (.if_icmp .ge 43, 3) := by decide +kernel
theorem dX35_stratify_92 : decode cX35_stratify 92 = .ok (.aload_n 2, 1) := by decide +kernel
theorem dX35_stratify_93 : decode cX35_stratify 93 = .ok (.aload 5, 2) := by decide +kernel
theorem dX35_stratify_95 : decode cX35_stratify 95 = .ok (.invokevirtual 170, 3) := by decide +kernel
theorem dX35_stratify_98 : decode cX35_stratify 98 = .ok (.ifCond .eq 34, 3) := by decide +kernel
theorem dX35_stratify_101 : decode cX35_stratify 101 = .ok (.aload 5, 2) := by decide +kernel
theorem dX35_stratify_103 : decode cX35_stratify 103 = .ok (.invokevirtual 161, 3) := by decide +kernel
theorem dX35_stratify_106 : decode cX35_stratify 106 = .ok (.iload_n 3, 1) := by decide +kernel
theorem dX35_stratify_107 : decode cX35_stratify 107 = .ok (.if_icmp .eq 21, 3) := by decide +kernel
theorem dX35_stratify_110 : decode cX35_stratify 110 = .ok (.aload_n 0, 1) := by decide +kernel
theorem dX35_stratify_111 : decode cX35_stratify 111 = .ok (.getfield 27, 3) := by decide +kernel
theorem dX35_stratify_114 : decode cX35_stratify 114 = .ok (.aload 5, 2) := by decide +kernel
theorem dX35_stratify_116 : decode cX35_stratify 116 = .ok (.invokevirtual 161, 3) := by decide +kernel
theorem dX35_stratify_119 : decode cX35_stratify 119 = .ok (.iaload, 1) := by decide +kernel
theorem dX35_stratify_120 : decode cX35_stratify 120 = .ok (.iload_n 3, 1) := by decide +kernel
theorem dX35_stratify_121 : decode cX35_stratify 121 = .ok (.ishr, 1) := by decide +kernel
theorem dX35_stratify_122 : decode cX35_stratify 122 = .ok (.iconst 1, 1) := by decide +kernel
theorem dX35_stratify_123 : decode cX35_stratify 123 = .ok (.iand, 1) := by decide +kernel
theorem dX35_stratify_124 : decode cX35_stratify 124 = .ok (.iconst 1, 1) := by decide +kernel
theorem dX35_stratify_125 : decode cX35_stratify 125 = .ok (.if_icmp .ne 7, 3) := by decide +kernel
theorem dX35_stratify_128 : decode cX35_stratify 128 = .ok (.iconst 1, 1) := by decide +kernel
theorem dX35_stratify_129 : decode cX35_stratify 129 = .ok (.goto 4, 3) := by decide +kernel
theorem dX35_stratify_132 : decode cX35_stratify 132 = .ok (.iconst 0, 1) := by decide +kernel
theorem dX35_stratify_133 : decode cX35_stratify 133 = .ok (.istore 6, 2) := by decide +kernel
theorem dX35_stratify_135 : decode cX35_stratify 135 = .ok (.iload 6, 2) := by decide +kernel
theorem dX35_stratify_137 : decode cX35_stratify 137 = .ok (.ifCond .eq 24, 3) := by decide +kernel
theorem dX35_stratify_140 : decode cX35_stratify 140 = .ok (.aload_n 0, 1) := by decide +kernel
theorem dX35_stratify_141 : decode cX35_stratify 141 = .ok (.getfield 167, 3) := by decide +kernel
theorem dX35_stratify_144 : decode cX35_stratify 144 = .ok (.iconst (-1), 1) := by decide +kernel
theorem dX35_stratify_145 : decode cX35_stratify 145 = .ok (.if_icmp .eq 11, 3) := by decide +kernel
theorem dX35_stratify_148 : decode cX35_stratify 148 = .ok (.iload_n 3, 1) := by decide +kernel
theorem dX35_stratify_149 : decode cX35_stratify 149 = .ok (.aload_n 0, 1) := by decide +kernel
theorem dX35_stratify_150 : decode cX35_stratify 150 = .ok (.getfield 167, 3) := by decide +kernel
theorem dX35_stratify_153 : decode cX35_stratify 153 = .ok (.if_icmp .ge 8, 3) := by decide +kernel
theorem dX35_stratify_156 : decode cX35_stratify 156 = .ok (.aload_n 0, 1) := by decide +kernel
theorem dX35_stratify_157 : decode cX35_stratify 157 = .ok (.iload_n 3, 1) := by decide +kernel
theorem dX35_stratify_158 : decode cX35_stratify 158 = .ok (.putfield 167, 3) := by decide +kernel
theorem dX35_stratify_161 : decode cX35_stratify 161 = .ok (.iinc 4 1, 3) := by decide +kernel
theorem dX35_stratify_164 : decode cX35_stratify 164 = .ok (.goto (-107), 3) := by decide +kernel
theorem dX35_stratify_167 : decode cX35_stratify 167 = .ok (.iinc 1 1, 3) := by decide +kernel
theorem dX35_stratify_170 : decode cX35_stratify 170 = .ok (.goto (-159), 3) := by decide +kernel
theorem dX35_stratify_173 : decode cX35_stratify 173 = .ok (.iconst 0, 1) := by decide +kernel
theorem dX35_stratify_174 : decode cX35_stratify 174 = .ok (.istore_n 1, 1) := by decide +kernel
theorem dX35_stratify_175 : decode cX35_stratify 175 = .ok (.iload_n 1, 1) := by decide +kernel
theorem dX35_stratify_176 : decode cX35_stratify 176 = .ok (.bipush 16, 2) := by decide +kernel
theorem dX35_stratify_178 : decode cX35_stratify 178 = .ok (.if_icmp .ge 16, 3) := by decide +kernel
theorem dX35_stratify_181 : decode cX35_stratify 181 = .ok (.aload_n 0, 1) := by decide +kernel
theorem dX35_stratify_182 : decode cX35_stratify 182 = .ok (.getfield 23, 3) := by decide +kernel
theorem dX35_stratify_185 : decode cX35_stratify 185 = .ok (.iload_n 1, 1) := by decide +kernel
theorem dX35_stratify_186 : decode cX35_stratify 186 = .ok (.iconst 0, 1) := by decide +kernel
theorem dX35_stratify_187 : decode cX35_stratify 187 = .ok (.iastore, 1) := by decide +kernel
theorem dX35_stratify_188 : decode cX35_stratify 188 = .ok (.iinc 1 1, 3) := by decide +kernel
theorem dX35_stratify_191 : decode cX35_stratify 191 = .ok (.goto (-16), 3) := by decide +kernel
theorem dX35_stratify_194 : decode cX35_stratify 194 = .ok (.aload_n 0, 1) := by decide +kernel
theorem dX35_stratify_195 : decode cX35_stratify 195 = .ok (.getfield 167, 3) := by decide +kernel
theorem dX35_stratify_198 : decode cX35_stratify 198 = .ok (.iconst (-1), 1) := by decide +kernel
theorem dX35_stratify_199 : decode cX35_stratify 199 = .ok (.if_icmp .ne 7, 3) := by decide +kernel
theorem dX35_stratify_202 : decode cX35_stratify 202 = .ok (.iconst 1, 1) := by decide +kernel
theorem dX35_stratify_203 : decode cX35_stratify 203 = .ok (.goto 4, 3) := by decide +kernel
theorem dX35_stratify_206 : decode cX35_stratify 206 = .ok (.iconst 0, 1) := by decide +kernel
theorem dX35_stratify_207 : decode cX35_stratify 207 = .ok (.istore_n 1, 1) := by decide +kernel
theorem dX35_stratify_208 : decode cX35_stratify 208 = .ok (.iload_n 1, 1) := by decide +kernel
theorem dX35_stratify_209 : decode cX35_stratify 209 = .ok (.ifCond .eq 161, 3) := by decide +kernel
theorem dX35_stratify_212 : decode cX35_stratify 212 = .ok (.iconst 0, 1) := by decide +kernel
theorem dX35_stratify_213 : decode cX35_stratify 213 = .ok (.istore_n 1, 1) := by decide +kernel
theorem dX35_stratify_214 : decode cX35_stratify 214 = .ok (.iconst 0, 1) := by decide +kernel
theorem dX35_stratify_215 : decode cX35_stratify 215 = .ok (.istore_n 2, 1) := by decide +kernel
theorem dX35_stratify_216 : decode cX35_stratify 216 = .ok (.iload_n 2, 1) := by decide +kernel
theorem dX35_stratify_217 : decode cX35_stratify 217 = .ok (.aload_n 0, 1) := by decide +kernel
theorem dX35_stratify_218 : decode cX35_stratify 218 = .ok (.getfield 19, 3) := by decide +kernel
theorem dX35_stratify_221 : decode cX35_stratify 221 = .ok (.invokevirtual 84, 3) := by decide +kernel
theorem dX35_stratify_224 : decode cX35_stratify 224 = .ok (.if_icmp .ge 143, 3) := by decide +kernel
theorem dX35_stratify_227 : decode cX35_stratify 227 = .ok (.aload_n 0, 1) := by decide +kernel
theorem dX35_stratify_228 : decode cX35_stratify 228 = .ok (.getfield 30, 3) := by decide +kernel
theorem dX35_stratify_231 : decode cX35_stratify 231 = .ok (.iload_n 2, 1) := by decide +kernel
theorem dX35_stratify_232 : decode cX35_stratify 232 = .ok (.baload, 1) := by decide +kernel
theorem dX35_stratify_233 : decode cX35_stratify 233 = .ok (.ifCond .ne 6, 3) := by decide +kernel
theorem dX35_stratify_236 : decode cX35_stratify 236 = .ok (.goto 125, 3) := by decide +kernel
theorem dX35_stratify_239 : decode cX35_stratify 239 = .ok (.aload_n 0, 1) := by decide +kernel
theorem dX35_stratify_240 : decode cX35_stratify 240 = .ok (.getfield 19, 3) := by decide +kernel
theorem dX35_stratify_243 : decode cX35_stratify 243 = .ok (.iload_n 2, 1) := by decide +kernel
theorem dX35_stratify_244 : decode cX35_stratify 244 = .ok (.invokevirtual 128, 3) := by decide +kernel
theorem dX35_stratify_247 : decode cX35_stratify 247 = .ok (.checkcast 114, 3) := by decide +kernel
theorem dX35_stratify_250 : decode cX35_stratify 250 = .ok (.astore_n 3, 1) := by decide +kernel
theorem dX35_stratify_251 : decode cX35_stratify 251 = .ok (.iconst 0, 1) := by decide +kernel
theorem dX35_stratify_252 : decode cX35_stratify 252 = .ok (.istore 4, 2) := by decide +kernel
theorem dX35_stratify_254 : decode cX35_stratify 254 = .ok (.iload 4, 2) := by decide +kernel
theorem dX35_stratify_256 : decode cX35_stratify 256 = .ok (.aload_n 3, 1) := by decide +kernel
theorem dX35_stratify_257 : decode cX35_stratify 257 = .ok (.getfield 131, 3) := by decide +kernel
theorem dX35_stratify_260 : decode cX35_stratify 260 = .ok (.invokevirtual 84, 3) := by decide +kernel
theorem dX35_stratify_263 : decode cX35_stratify 263 = .ok (.if_icmp .ge 98, 3) := by decide +kernel
theorem dX35_stratify_266 : decode cX35_stratify 266 = .ok (.aload_n 3, 1) := by decide +kernel
theorem dX35_stratify_267 : decode cX35_stratify 267 = .ok (.getfield 131, 3) := by decide +kernel
theorem dX35_stratify_270 : decode cX35_stratify 270 = .ok (.iload 4, 2) := by decide +kernel
theorem dX35_stratify_272 : decode cX35_stratify 272 = .ok (.invokevirtual 128, 3) := by decide +kernel
theorem dX35_stratify_275 : decode cX35_stratify 275 = .ok (.checkcast 116, 3) := by decide +kernel
theorem dX35_stratify_278 : decode cX35_stratify 278 = .ok (.astore 5, 2) := by decide +kernel
theorem dX35_stratify_280 : decode cX35_stratify 280 = .ok (.aload 5, 2) := by decide +kernel
theorem dX35_stratify_282 : decode cX35_stratify 282 = .ok (.invokevirtual 154, 3) := by decide +kernel
theorem dX35_stratify_285 : decode cX35_stratify 285 = .ok (.iconst 2, 1) := by decide +kernel
theorem dX35_stratify_286 : decode cX35_stratify 286 = .ok (.if_icmp .lt 6, 3) := by decide +kernel
theorem dX35_stratify_289 : decode cX35_stratify 289 = .ok (.goto 66, 3) := by decide +kernel
theorem dX35_stratify_292 : decode cX35_stratify 292 = .ok (.aload_n 0, 1) := by decide +kernel
theorem dX35_stratify_293 : decode cX35_stratify 293 = .ok (.getfield 23, 3) := by decide +kernel
theorem dX35_stratify_296 : decode cX35_stratify 296 = .ok (.aload 5, 2) := by decide +kernel
theorem dX35_stratify_298 : decode cX35_stratify 298 = .ok (.invokevirtual 161, 3) := by decide +kernel
theorem dX35_stratify_301 : decode cX35_stratify 301 = .ok (.iaload, 1) := by decide +kernel
theorem dX35_stratify_302 : decode cX35_stratify 302 = .ok (.aload_n 3, 1) := by decide +kernel
theorem dX35_stratify_303 : decode cX35_stratify 303 = .ok (.aload 5, 2) := by decide +kernel
theorem dX35_stratify_305 : decode cX35_stratify 305 = .ok (.invokevirtual 170, 3) := by decide +kernel
theorem dX35_stratify_308 : decode cX35_stratify 308 = .ok (.ifCond .eq 7, 3) := by decide +kernel
theorem dX35_stratify_311 : decode cX35_stratify 311 = .ok (.iconst 1, 1) := by decide +kernel
theorem dX35_stratify_312 : decode cX35_stratify 312 = .ok (.goto 4, 3) := by decide +kernel
theorem dX35_stratify_315 : decode cX35_stratify 315 = .ok (.iconst 0, 1) := by decide +kernel
theorem dX35_stratify_316 : decode cX35_stratify 316 = .ok (.iadd, 1) := by decide +kernel
theorem dX35_stratify_317 : decode cX35_stratify 317 = .ok (.istore 6, 2) := by decide +kernel
theorem dX35_stratify_319 : decode cX35_stratify 319 = .ok (.aload_n 0, 1) := by decide +kernel
theorem dX35_stratify_320 : decode cX35_stratify 320 = .ok (.getfield 23, 3) := by decide +kernel
theorem dX35_stratify_323 : decode cX35_stratify 323 = .ok (.aload_n 3, 1) := by decide +kernel
theorem dX35_stratify_324 : decode cX35_stratify 324 = .ok (.getfield 157, 3) := by decide +kernel
theorem dX35_stratify_327 : decode cX35_stratify 327 = .ok (.invokevirtual 161, 3) := by decide +kernel
theorem dX35_stratify_330 : decode cX35_stratify 330 = .ok (.iaload, 1) := by decide +kernel
theorem dX35_stratify_331 : decode cX35_stratify 331 = .ok (.iload 6, 2) := by decide +kernel
theorem dX35_stratify_333 : decode cX35_stratify 333 = .ok (.if_icmp .lt 6, 3) := by decide +kernel
theorem dX35_stratify_336 : decode cX35_stratify 336 = .ok (.goto 19, 3) := by decide +kernel
theorem dX35_stratify_339 : decode cX35_stratify 339 = .ok (.aload_n 0, 1) := by decide +kernel
theorem dX35_stratify_340 : decode cX35_stratify 340 = .ok (.getfield 23, 3) := by decide +kernel
theorem dX35_stratify_343 : decode cX35_stratify 343 = .ok (.aload_n 3, 1) := by decide +kernel
theorem dX35_stratify_344 : decode cX35_stratify 344 = .ok (.getfield 157, 3) := by decide +kernel
theorem dX35_stratify_347 : decode cX35_stratify 347 = .ok (.invokevirtual 161, 3) := by decide +kernel
theorem dX35_stratify_350 : decode cX35_stratify 350 = .ok (.iload 6, 2) := by decide +kernel
theorem dX35_stratify_352 : decode cX35_stratify 352 = .ok (.iastore, 1) := by decide +kernel
theorem dX35_stratify_353 : decode cX35_stratify 353 = .ok (.iconst 1, 1) := by decide +kernel
theorem dX35_stratify_354 : decode cX35_stratify 354 = .ok (.istore_n 1, 1) := by decide +kernel
theorem dX35_stratify_355 : decode cX35_stratify 355 = .ok (.iinc 4 1, 3) := by decide +kernel
theorem dX35_stratify_358 : decode cX35_stratify 358 = .ok (.goto (-104), 3) := by decide +kernel
theorem dX35_stratify_361 : decode cX35_stratify 361 = .ok (.iinc 2 1, 3) := by decide +kernel
theorem dX35_stratify_364 : decode cX35_stratify 364 = .ok (.goto (-148), 3) := by decide +kernel
theorem dX35_stratify_367 : decode cX35_stratify 367 = .ok (.goto (-159), 3) := by decide +kernel
theorem dX35_stratify_370 : decode cX35_stratify 370 = .ok (.return_, 1) := by decide +kernel
abbrev cX35_findNeeds : ByteArray := prog_58_method_18_code
def yX35_findNeeds : MethodName := ⟨RX35, "findNeeds", "()V"⟩
theorem dX35_findNeeds_0 : decode cX35_findNeeds 0 = .ok (.iconst 0, 1) := by decide +kernel
theorem dX35_findNeeds_1 : decode cX35_findNeeds 1 = .ok (.istore_n 1, 1) := by decide +kernel
theorem dX35_findNeeds_2 : decode cX35_findNeeds 2 = .ok (.iload_n 1, 1) := by decide +kernel
theorem dX35_findNeeds_3 : decode cX35_findNeeds 3 = .ok (.bipush 16, 2) := by decide +kernel
theorem dX35_findNeeds_5 : decode cX35_findNeeds 5 = .ok (.if_icmp .ge 16, 3) := by decide +kernel
theorem dX35_findNeeds_8 : decode cX35_findNeeds 8 = .ok (.aload_n 0, 1) := by decide +kernel
theorem dX35_findNeeds_9 : decode cX35_findNeeds 9 = .ok (.getfield 27, 3) := by decide +kernel
theorem dX35_findNeeds_12 : decode cX35_findNeeds 12 = .ok (.iload_n 1, 1) := by decide +kernel
theorem dX35_findNeeds_13 : decode cX35_findNeeds 13 = .ok (.iconst 0, 1) := by decide +kernel
theorem dX35_findNeeds_14 : decode cX35_findNeeds 14 = .ok (.iastore, 1) := by decide +kernel
theorem dX35_findNeeds_15 : decode cX35_findNeeds 15 = .ok (.iinc 1 1, 3) := by decide +kernel
theorem dX35_findNeeds_18 : decode cX35_findNeeds 18 = .ok (.goto (-16), 3) := by decide +kernel
theorem dX35_findNeeds_21 : decode cX35_findNeeds 21 = .ok (.iconst 0, 1) := by decide +kernel
theorem dX35_findNeeds_22 : decode cX35_findNeeds 22 = .ok (.istore_n 1, 1) := by decide +kernel
theorem dX35_findNeeds_23 : decode cX35_findNeeds 23 = .ok (.iload_n 1, 1) := by decide +kernel
theorem dX35_findNeeds_24 : decode cX35_findNeeds 24 = .ok (.aload_n 0, 1) := by decide +kernel
theorem dX35_findNeeds_25 : decode cX35_findNeeds 25 = .ok (.getfield 19, 3) := by decide +kernel
theorem dX35_findNeeds_28 : decode cX35_findNeeds 28 = .ok (.invokevirtual 84, 3) := by decide +kernel
theorem dX35_findNeeds_31 : decode cX35_findNeeds 31 = .ok (.if_icmp .ge 96, 3) := by decide +kernel
theorem dX35_findNeeds_34 : decode cX35_findNeeds 34 = .ok (.aload_n 0, 1) := by decide +kernel
theorem dX35_findNeeds_35 : decode cX35_findNeeds 35 = .ok (.getfield 30, 3) := by decide +kernel
theorem dX35_findNeeds_38 : decode cX35_findNeeds 38 = .ok (.iload_n 1, 1) := by decide +kernel
theorem dX35_findNeeds_39 : decode cX35_findNeeds 39 = .ok (.baload, 1) := by decide +kernel
theorem dX35_findNeeds_40 : decode cX35_findNeeds 40 = .ok (.ifCond .ne 6, 3) := by decide +kernel
theorem dX35_findNeeds_43 : decode cX35_findNeeds 43 = .ok (.goto 78, 3) := by decide +kernel
theorem dX35_findNeeds_46 : decode cX35_findNeeds 46 = .ok (.aload_n 0, 1) := by decide +kernel
theorem dX35_findNeeds_47 : decode cX35_findNeeds 47 = .ok (.getfield 19, 3) := by decide +kernel
theorem dX35_findNeeds_50 : decode cX35_findNeeds 50 = .ok (.iload_n 1, 1) := by decide +kernel
theorem dX35_findNeeds_51 : decode cX35_findNeeds 51 = .ok (.invokevirtual 128, 3) := by decide +kernel
theorem dX35_findNeeds_54 : decode cX35_findNeeds 54 = .ok (.checkcast 114, 3) := by decide +kernel
theorem dX35_findNeeds_57 : decode cX35_findNeeds 57 = .ok (.astore_n 2, 1) := by decide +kernel
theorem dX35_findNeeds_58 : decode cX35_findNeeds 58 = .ok (.iconst 0, 1) := by decide +kernel
theorem dX35_findNeeds_59 : decode cX35_findNeeds 59 = .ok (.istore_n 3, 1) := by decide +kernel
theorem dX35_findNeeds_60 : decode cX35_findNeeds 60 = .ok (.iload_n 3, 1) := by decide +kernel
theorem dX35_findNeeds_61 : decode cX35_findNeeds 61 = .ok (.aload_n 2, 1) := by decide +kernel
theorem dX35_findNeeds_62 : decode cX35_findNeeds 62 = .ok (.getfield 131, 3) := by decide +kernel
theorem dX35_findNeeds_65 : decode cX35_findNeeds 65 = .ok (.invokevirtual 84, 3) := by decide +kernel
theorem dX35_findNeeds_68 : decode cX35_findNeeds 68 = .ok (.if_icmp .ge 53, 3) := by decide +kernel
theorem dX35_findNeeds_71 : decode cX35_findNeeds 71 = .ok (.aload_n 2, 1) := by decide +kernel
theorem dX35_findNeeds_72 : decode cX35_findNeeds 72 = .ok (.getfield 131, 3) := by decide +kernel
theorem dX35_findNeeds_75 : decode cX35_findNeeds 75 = .ok (.iload_n 3, 1) := by decide +kernel
theorem dX35_findNeeds_76 : decode cX35_findNeeds 76 = .ok (.invokevirtual 128, 3) := by decide +kernel
theorem dX35_findNeeds_79 : decode cX35_findNeeds 79 = .ok (.checkcast 116, 3) := by decide +kernel
theorem dX35_findNeeds_82 : decode cX35_findNeeds 82 = .ok (.astore 4, 2) := by decide +kernel
theorem dX35_findNeeds_84 : decode cX35_findNeeds 84 = .ok (.aload 4, 2) := by decide +kernel
theorem dX35_findNeeds_86 : decode cX35_findNeeds 86 = .ok (.invokevirtual 154, 3) := by decide +kernel
theorem dX35_findNeeds_89 : decode cX35_findNeeds 89 = .ok (.iconst 2, 1) := by decide +kernel
theorem dX35_findNeeds_90 : decode cX35_findNeeds 90 = .ok (.if_icmp .ge 25, 3) := by decide +kernel
theorem dX35_findNeeds_93 : decode cX35_findNeeds 93 = .ok (.aload_n 0, 1) := by decide +kernel
theorem dX35_findNeeds_94 : decode cX35_findNeeds 94 = .ok (.getfield 27, 3) := by decide +kernel
theorem dX35_findNeeds_97 : decode cX35_findNeeds 97 = .ok (.aload_n 2, 1) := by decide +kernel
theorem dX35_findNeeds_98 : decode cX35_findNeeds 98 = .ok (.getfield 157, 3) := by decide +kernel
theorem dX35_findNeeds_101 : decode cX35_findNeeds 101 = .ok (.invokevirtual 161, 3) := by decide +kernel
theorem dX35_findNeeds_104 : decode cX35_findNeeds 104 = .ok (.dup2, 1) := by decide +kernel
theorem dX35_findNeeds_105 : decode cX35_findNeeds 105 = .ok (.iaload, 1) := by decide +kernel
theorem dX35_findNeeds_106 : decode cX35_findNeeds 106 = .ok (.iconst 1, 1) := by decide +kernel
theorem dX35_findNeeds_107 : decode cX35_findNeeds 107 = .ok (.aload 4, 2) := by decide +kernel
theorem dX35_findNeeds_109 : decode cX35_findNeeds 109 = .ok (.invokevirtual 161, 3) := by decide +kernel
theorem dX35_findNeeds_112 : decode cX35_findNeeds 112 = .ok (.ishl, 1) := by decide +kernel
theorem dX35_findNeeds_113 : decode cX35_findNeeds 113 = .ok (.ior, 1) := by decide +kernel
theorem dX35_findNeeds_114 : decode cX35_findNeeds 114 = .ok (.iastore, 1) := by decide +kernel
theorem dX35_findNeeds_115 : decode cX35_findNeeds 115 = .ok (.iinc 3 1, 3) := by decide +kernel
theorem dX35_findNeeds_118 : decode cX35_findNeeds 118 = .ok (.goto (-58), 3) := by decide +kernel
theorem dX35_findNeeds_121 : decode cX35_findNeeds 121 = .ok (.iinc 1 1, 3) := by decide +kernel
theorem dX35_findNeeds_124 : decode cX35_findNeeds 124 = .ok (.goto (-101), 3) := by decide +kernel
theorem dX35_findNeeds_127 : decode cX35_findNeeds 127 = .ok (.iconst 0, 1) := by decide +kernel
theorem dX35_findNeeds_128 : decode cX35_findNeeds 128 = .ok (.istore_n 1, 1) := by decide +kernel
theorem dX35_findNeeds_129 : decode cX35_findNeeds 129 = .ok (.iload_n 1, 1) := by decide +kernel
theorem dX35_findNeeds_130 : decode cX35_findNeeds 130 = .ok (.bipush 16, 2) := by decide +kernel
theorem dX35_findNeeds_132 : decode cX35_findNeeds 132 = .ok (.if_icmp .ge 52, 3) := by decide +kernel
theorem dX35_findNeeds_135 : decode cX35_findNeeds 135 = .ok (.iconst 0, 1) := by decide +kernel
theorem dX35_findNeeds_136 : decode cX35_findNeeds 136 = .ok (.istore_n 2, 1) := by decide +kernel
theorem dX35_findNeeds_137 : decode cX35_findNeeds 137 = .ok (.iload_n 2, 1) := by decide +kernel
theorem dX35_findNeeds_138 : decode cX35_findNeeds 138 = .ok (.bipush 16, 2) := by decide +kernel
theorem dX35_findNeeds_140 : decode cX35_findNeeds 140 = .ok (.if_icmp .ge 38, 3) := by decide +kernel
theorem dX35_findNeeds_143 : decode cX35_findNeeds 143 = .ok (.aload_n 0, 1) := by decide +kernel
theorem dX35_findNeeds_144 : decode cX35_findNeeds 144 = .ok (.getfield 27, 3) := by decide +kernel
theorem dX35_findNeeds_147 : decode cX35_findNeeds 147 = .ok (.iload_n 2, 1) := by decide +kernel
theorem dX35_findNeeds_148 : decode cX35_findNeeds 148 = .ok (.iaload, 1) := by decide +kernel
theorem dX35_findNeeds_149 : decode cX35_findNeeds 149 = .ok (.iload_n 1, 1) := by decide +kernel
theorem dX35_findNeeds_150 : decode cX35_findNeeds 150 = .ok (.ishr, 1) := by decide +kernel
theorem dX35_findNeeds_151 : decode cX35_findNeeds 151 = .ok (.iconst 1, 1) := by decide +kernel
theorem dX35_findNeeds_152 : decode cX35_findNeeds 152 = .ok (.iand, 1) := by decide +kernel
theorem dX35_findNeeds_153 : decode cX35_findNeeds 153 = .ok (.iconst 1, 1) := by decide +kernel
theorem dX35_findNeeds_154 : decode cX35_findNeeds 154 = .ok (.if_icmp .ne 18, 3) := by decide +kernel
theorem dX35_findNeeds_157 : decode cX35_findNeeds 157 = .ok (.aload_n 0, 1) := by decide +kernel
theorem dX35_findNeeds_158 : decode cX35_findNeeds 158 = .ok (.getfield 27, 3) := by decide +kernel
theorem dX35_findNeeds_161 : decode cX35_findNeeds 161 = .ok (.iload_n 2, 1) := by decide +kernel
theorem dX35_findNeeds_162 : decode cX35_findNeeds 162 = .ok (.dup2, 1) := by decide +kernel
theorem dX35_findNeeds_163 : decode cX35_findNeeds 163 = .ok (.iaload, 1) := by decide +kernel
theorem dX35_findNeeds_164 : decode cX35_findNeeds 164 = .ok (.aload_n 0, 1) := by decide +kernel
theorem dX35_findNeeds_165 : decode cX35_findNeeds 165 = .ok (.getfield 27, 3) := by decide +kernel
theorem dX35_findNeeds_168 : decode cX35_findNeeds 168 = .ok (.iload_n 1, 1) := by decide +kernel
theorem dX35_findNeeds_169 : decode cX35_findNeeds 169 = .ok (.iaload, 1) := by decide +kernel
theorem dX35_findNeeds_170 : decode cX35_findNeeds 170 = .ok (.ior, 1) := by decide +kernel
theorem dX35_findNeeds_171 : decode cX35_findNeeds 171 = .ok (.iastore, 1) := by decide +kernel
theorem dX35_findNeeds_172 : decode cX35_findNeeds 172 = .ok (.iinc 2 1, 3) := by decide +kernel
theorem dX35_findNeeds_175 : decode cX35_findNeeds 175 = .ok (.goto (-38), 3) := by decide +kernel
theorem dX35_findNeeds_178 : decode cX35_findNeeds 178 = .ok (.iinc 1 1, 3) := by decide +kernel
theorem dX35_findNeeds_181 : decode cX35_findNeeds 181 = .ok (.goto (-52), 3) := by decide +kernel
theorem dX35_findNeeds_184 : decode cX35_findNeeds 184 = .ok (.return_, 1) := by decide +kernel
abbrev cX35_goThrough : ByteArray := prog_58_method_32_code
def yX35_goThrough : MethodName := ⟨RX35, "goThrough", "(I)V"⟩
theorem dX35_goThrough_0 : decode cX35_goThrough 0 = .ok (.iconst 0, 1) := by decide +kernel
theorem dX35_goThrough_1 : decode cX35_goThrough 1 = .ok (.istore_n 2, 1) := by decide +kernel
theorem dX35_goThrough_2 : decode cX35_goThrough 2 = .ok (.iconst 1, 1) := by decide +kernel
theorem dX35_goThrough_3 : decode cX35_goThrough 3 = .ok (.istore_n 3, 1) := by decide +kernel
theorem dX35_goThrough_4 : decode cX35_goThrough 4 = .ok (.iload_n 3, 1) := by decide +kernel
theorem dX35_goThrough_5 : decode cX35_goThrough 5 = .ok (.ifCond .eq 227, 3) := by decide +kernel
theorem dX35_goThrough_8 : decode cX35_goThrough 8 = .ok (.iinc 2 1, 3) := by decide +kernel
theorem dX35_goThrough_11 : decode cX35_goThrough 11 = .ok (.aload_n 0, 1) := by decide +kernel
theorem dX35_goThrough_12 : decode cX35_goThrough 12 = .ok (.getfield 46, 3) := by decide +kernel
theorem dX35_goThrough_15 : decode cX35_goThrough 15 = .ok (.invokevirtual 224, 3) := by decide +kernel
theorem dX35_goThrough_18 : decode cX35_goThrough 18 = .ok (.aload_n 0, 1) := by decide +kernel
theorem dX35_goThrough_19 : decode cX35_goThrough 19 = .ok (.iload_n 1, 1) := by decide +kernel
theorem dX35_goThrough_20 : decode cX35_goThrough 20 = .ok (.invokevirtual 247, 3) := by decide +kernel
theorem dX35_goThrough_23 : decode cX35_goThrough 23 = .ok (.aload_n 0, 1) := by decide +kernel
theorem dX35_goThrough_24 : decode cX35_goThrough 24 = .ok (.getfield 237, 3) := by decide +kernel
theorem dX35_goThrough_27 : decode cX35_goThrough 27 = .ok (.ifCond .eq 4, 3) := by decide +kernel
theorem dX35_goThrough_30 : decode cX35_goThrough 30 = .ok (.return_, 1) := by decide +kernel
theorem dX35_goThrough_31 : decode cX35_goThrough 31 = .ok (.iconst 0, 1) := by decide +kernel
theorem dX35_goThrough_32 : decode cX35_goThrough 32 = .ok (.istore 4, 2) := by decide +kernel
theorem dX35_goThrough_34 : decode cX35_goThrough 34 = .ok (.iload 4, 2) := by decide +kernel
theorem dX35_goThrough_36 : decode cX35_goThrough 36 = .ok (.aload_n 0, 1) := by decide +kernel
theorem dX35_goThrough_37 : decode cX35_goThrough 37 = .ok (.getfield 19, 3) := by decide +kernel
theorem dX35_goThrough_40 : decode cX35_goThrough 40 = .ok (.invokevirtual 84, 3) := by decide +kernel
theorem dX35_goThrough_43 : decode cX35_goThrough 43 = .ok (.if_icmp .ge 72, 3) := by decide +kernel
theorem dX35_goThrough_46 : decode cX35_goThrough 46 = .ok (.aload_n 0, 1) := by decide +kernel
theorem dX35_goThrough_47 : decode cX35_goThrough 47 = .ok (.getfield 30, 3) := by decide +kernel
theorem dX35_goThrough_50 : decode cX35_goThrough 50 = .ok (.iload 4, 2) := by decide +kernel
theorem dX35_goThrough_52 : decode cX35_goThrough 52 = .ok (.baload, 1) := by decide +kernel
theorem dX35_goThrough_53 : decode cX35_goThrough 53 = .ok (.ifCond .eq 56, 3) := by decide +kernel
theorem dX35_goThrough_56 : decode cX35_goThrough 56 = .ok (.aload_n 0, 1) := by decide +kernel
theorem dX35_goThrough_57 : decode cX35_goThrough 57 = .ok (.getfield 23, 3) := by decide +kernel
theorem dX35_goThrough_60 : decode cX35_goThrough 60 = .ok (.aload_n 0, 1) := by decide +kernel
theorem dX35_goThrough_61 : decode cX35_goThrough 61 = .ok (.getfield 19, 3) := by decide +kernel
theorem dX35_goThrough_64 : decode cX35_goThrough 64 = .ok (.iload 4, 2) := by decide +kernel
theorem dX35_goThrough_66 : decode cX35_goThrough 66 = .ok (.invokevirtual 128, 3) := by decide +kernel
theorem dX35_goThrough_69 : decode cX35_goThrough 69 = .ok (.checkcast 114, 3) := by decide +kernel
theorem dX35_goThrough_72 : decode cX35_goThrough 72 = .ok (.getfield 157, 3) := by decide +kernel
theorem dX35_goThrough_75 : decode cX35_goThrough 75 = .ok (.invokevirtual 161, 3) := by decide +kernel
theorem dX35_goThrough_78 : decode cX35_goThrough 78 = .ok (.iaload, 1) := by decide +kernel
theorem dX35_goThrough_79 : decode cX35_goThrough 79 = .ok (.iload_n 1, 1) := by decide +kernel
theorem dX35_goThrough_80 : decode cX35_goThrough 80 = .ok (.if_icmp .ne 29, 3) := by decide +kernel
theorem dX35_goThrough_83 : decode cX35_goThrough 83 = .ok (.aload_n 0, 1) := by decide +kernel
theorem dX35_goThrough_84 : decode cX35_goThrough 84 = .ok (.aload_n 0, 1) := by decide +kernel
theorem dX35_goThrough_85 : decode cX35_goThrough 85 = .ok (.getfield 19, 3) := by decide +kernel
theorem dX35_goThrough_88 : decode cX35_goThrough 88 = .ok (.iload 4, 2) := by decide +kernel
theorem dX35_goThrough_90 : decode cX35_goThrough 90 = .ok (.invokevirtual 128, 3) := by decide +kernel
theorem dX35_goThrough_93 : decode cX35_goThrough 93 = .ok (.checkcast 114, 3) := by decide +kernel
theorem dX35_goThrough_96 : decode cX35_goThrough 96 = .ok (.iload_n 2, 1) := by decide +kernel
theorem dX35_goThrough_97 : decode cX35_goThrough 97 = .ok (.iconst 1, 1) := by decide +kernel
theorem dX35_goThrough_98 : decode cX35_goThrough 98 = .ok (.if_icmp .ne 7, 3) := by decide +kernel
theorem dX35_goThrough_101 : decode cX35_goThrough 101 = .ok (.iconst 1, 1) := by decide +kernel
theorem dX35_goThrough_102 : decode cX35_goThrough 102 = .ok (.goto 4, 3) := by decide +kernel
theorem dX35_goThrough_105 : decode cX35_goThrough 105 = .ok (.iconst 0, 1) := by decide +kernel
theorem dX35_goThrough_106 : decode cX35_goThrough 106 = .ok (.invokevirtual 264, 3) := by decide +kernel
theorem dX35_goThrough_109 : decode cX35_goThrough 109 = .ok (.iinc 4 1, 3) := by decide +kernel
theorem dX35_goThrough_112 : decode cX35_goThrough 112 = .ok (.goto (-78), 3) := by decide +kernel
theorem dX35_goThrough_115 : decode cX35_goThrough 115 = .ok (.aload_n 0, 1) := by decide +kernel
theorem dX35_goThrough_116 : decode cX35_goThrough 116 = .ok (.getfield 46, 3) := by decide +kernel
theorem dX35_goThrough_119 : decode cX35_goThrough 119 = .ok (.invokevirtual 268, 3) := by decide +kernel
theorem dX35_goThrough_122 : decode cX35_goThrough 122 = .ok (.ifCond .ne 7, 3) := by decide +kernel
theorem dX35_goThrough_125 : decode cX35_goThrough 125 = .ok (.iconst 1, 1) := by decide +kernel
theorem dX35_goThrough_126 : decode cX35_goThrough 126 = .ok (.goto 4, 3) := by decide +kernel
theorem dX35_goThrough_129 : decode cX35_goThrough 129 = .ok (.iconst 0, 1) := by decide +kernel
theorem dX35_goThrough_130 : decode cX35_goThrough 130 = .ok (.istore_n 3, 1) := by decide +kernel
theorem dX35_goThrough_131 : decode cX35_goThrough 131 = .ok (.iload_n 3, 1) := by decide +kernel
theorem dX35_goThrough_132 : decode cX35_goThrough 132 = .ok (.ifCond .eq 13, 3) := by decide +kernel
theorem dX35_goThrough_135 : decode cX35_goThrough 135 = .ok (.aload_n 0, 1) := by decide +kernel
theorem dX35_goThrough_136 : decode cX35_goThrough 136 = .ok (.dup, 1) := by decide +kernel
theorem dX35_goThrough_137 : decode cX35_goThrough 137 = .ok (.getfield 231, 3) := by decide +kernel
theorem dX35_goThrough_140 : decode cX35_goThrough 140 = .ok (.iconst 1, 1) := by decide +kernel
theorem dX35_goThrough_141 : decode cX35_goThrough 141 = .ok (.iadd, 1) := by decide +kernel
theorem dX35_goThrough_142 : decode cX35_goThrough 142 = .ok (.putfield 231, 3) := by decide +kernel
theorem dX35_goThrough_145 : decode cX35_goThrough 145 = .ok (.aload_n 0, 1) := by decide +kernel
theorem dX35_goThrough_146 : decode cX35_goThrough 146 = .ok (.getfield 46, 3) := by decide +kernel
theorem dX35_goThrough_149 : decode cX35_goThrough 149 = .ok (.iconst 0, 1) := by decide +kernel
theorem dX35_goThrough_150 : decode cX35_goThrough 150 = .ok (.invokevirtual 201, 3) := by decide +kernel
theorem dX35_goThrough_153 : decode cX35_goThrough 153 = .ok (.istore 4, 2) := by decide +kernel
theorem dX35_goThrough_155 : decode cX35_goThrough 155 = .ok (.iload 4, 2) := by decide +kernel
theorem dX35_goThrough_157 : decode cX35_goThrough 157 = .ok (.ifCond .lt 41, 3) := by decide +kernel
theorem dX35_goThrough_160 : decode cX35_goThrough 160 = .ok (.aload_n 0, 1) := by decide +kernel
theorem dX35_goThrough_161 : decode cX35_goThrough 161 = .ok (.getfield 37, 3) := by decide +kernel
theorem dX35_goThrough_164 : decode cX35_goThrough 164 = .ok (.iload 4, 2) := by decide +kernel
theorem dX35_goThrough_166 : decode cX35_goThrough 166 = .ok (.iload_n 2, 1) := by decide +kernel
theorem dX35_goThrough_167 : decode cX35_goThrough 167 = .ok (.iastore, 1) := by decide +kernel
theorem dX35_goThrough_168 : decode cX35_goThrough 168 = .ok (.aload_n 0, 1) := by decide +kernel
theorem dX35_goThrough_169 : decode cX35_goThrough 169 = .ok (.getfield 74, 3) := by decide +kernel
theorem dX35_goThrough_172 : decode cX35_goThrough 172 = .ok (.iload 4, 2) := by decide +kernel
theorem dX35_goThrough_174 : decode cX35_goThrough 174 = .ok (.bipush 10, 2) := by decide +kernel
theorem dX35_goThrough_176 : decode cX35_goThrough 176 = .ok (.ishr, 1) := by decide +kernel
theorem dX35_goThrough_177 : decode cX35_goThrough 177 = .ok (.dup2, 1) := by decide +kernel
theorem dX35_goThrough_178 : decode cX35_goThrough 178 = .ok (.iaload, 1) := by decide +kernel
theorem dX35_goThrough_179 : decode cX35_goThrough 179 = .ok (.iconst 1, 1) := by decide +kernel
theorem dX35_goThrough_180 : decode cX35_goThrough 180 = .ok (.iadd, 1) := by decide +kernel
theorem dX35_goThrough_181 : decode cX35_goThrough 181 = .ok (.iastore, 1) := by decide +kernel
theorem dX35_goThrough_182 : decode cX35_goThrough 182 = .ok (.aload_n 0, 1) := by decide +kernel
theorem dX35_goThrough_183 : decode cX35_goThrough 183 = .ok (.getfield 46, 3) := by decide +kernel
theorem dX35_goThrough_186 : decode cX35_goThrough 186 = .ok (.iload 4, 2) := by decide +kernel
theorem dX35_goThrough_188 : decode cX35_goThrough 188 = .ok (.iconst 1, 1) := by decide +kernel
theorem dX35_goThrough_189 : decode cX35_goThrough 189 = .ok (.iadd, 1) := by decide +kernel
theorem dX35_goThrough_190 : decode cX35_goThrough 190 = .ok (.invokevirtual 201, 3) := by decide +kernel
theorem dX35_goThrough_193 : decode cX35_goThrough 193 = .ok (.istore 4, 2) := by decide +kernel
theorem dX35_goThrough_195 : decode cX35_goThrough 195 = .ok (.goto (-40), 3) := by decide +kernel
theorem dX35_goThrough_198 : decode cX35_goThrough 198 = .ok (.aload_n 0, 1) := by decide +kernel
theorem dX35_goThrough_199 : decode cX35_goThrough 199 = .ok (.getfield 34, 3) := by decide +kernel
theorem dX35_goThrough_202 : decode cX35_goThrough 202 = .ok (.aload_n 0, 1) := by decide +kernel
theorem dX35_goThrough_203 : decode cX35_goThrough 203 = .ok (.getfield 46, 3) := by decide +kernel
theorem dX35_goThrough_206 : decode cX35_goThrough 206 = .ok (.invokevirtual 227, 3) := by decide +kernel
theorem dX35_goThrough_209 : decode cX35_goThrough 209 = .ok (.aload_n 0, 1) := by decide +kernel
theorem dX35_goThrough_210 : decode cX35_goThrough 210 = .ok (.getfield 43, 3) := by decide +kernel
theorem dX35_goThrough_213 : decode cX35_goThrough 213 = .ok (.astore 4, 2) := by decide +kernel
theorem dX35_goThrough_215 : decode cX35_goThrough 215 = .ok (.aload_n 0, 1) := by decide +kernel
theorem dX35_goThrough_216 : decode cX35_goThrough 216 = .ok (.aload_n 0, 1) := by decide +kernel
theorem dX35_goThrough_217 : decode cX35_goThrough 217 = .ok (.getfield 46, 3) := by decide +kernel
theorem dX35_goThrough_220 : decode cX35_goThrough 220 = .ok (.putfield 43, 3) := by decide +kernel
theorem dX35_goThrough_223 : decode cX35_goThrough 223 = .ok (.aload_n 0, 1) := by decide +kernel
theorem dX35_goThrough_224 : decode cX35_goThrough 224 = .ok (.aload 4, 2) := by decide +kernel
theorem dX35_goThrough_226 : decode cX35_goThrough 226 = .ok (.putfield 46, 3) := by decide +kernel
theorem dX35_goThrough_229 : decode cX35_goThrough 229 = .ok (.goto (-225), 3) := by decide +kernel
theorem dX35_goThrough_232 : decode cX35_goThrough 232 = .ok (.return_, 1) := by decide +kernel
abbrev cX35_pay : ByteArray := prog_58_method_30_code
def yX35_pay : MethodName := ⟨RX35, "pay", "(I)V"⟩
theorem dX35_pay_0 : decode cX35_pay 0 = .ok (.iconst 0, 1) := by decide +kernel
theorem dX35_pay_1 : decode cX35_pay 1 = .ok (.istore_n 2, 1) := by decide +kernel
theorem dX35_pay_2 : decode cX35_pay 2 = .ok (.iload_n 2, 1) := by decide +kernel
theorem dX35_pay_3 : decode cX35_pay 3 = .ok (.aload_n 0, 1) := by decide +kernel
theorem dX35_pay_4 : decode cX35_pay 4 = .ok (.getfield 19, 3) := by decide +kernel
theorem dX35_pay_7 : decode cX35_pay 7 = .ok (.invokevirtual 84, 3) := by decide +kernel
theorem dX35_pay_10 : decode cX35_pay 10 = .ok (.if_icmp .ge 139, 3) := by decide +kernel
theorem dX35_pay_13 : decode cX35_pay 13 = .ok (.aload_n 0, 1) := by decide +kernel
theorem dX35_pay_14 : decode cX35_pay 14 = .ok (.getfield 19, 3) := by decide +kernel
theorem dX35_pay_17 : decode cX35_pay 17 = .ok (.iload_n 2, 1) := by decide +kernel
theorem dX35_pay_18 : decode cX35_pay 18 = .ok (.invokevirtual 128, 3) := by decide +kernel
theorem dX35_pay_21 : decode cX35_pay 21 = .ok (.checkcast 114, 3) := by decide +kernel
theorem dX35_pay_24 : decode cX35_pay 24 = .ok (.astore_n 3, 1) := by decide +kernel
theorem dX35_pay_25 : decode cX35_pay 25 = .ok (.aload_n 0, 1) := by decide +kernel
theorem dX35_pay_26 : decode cX35_pay 26 = .ok (.getfield 30, 3) := by decide +kernel
theorem dX35_pay_29 : decode cX35_pay 29 = .ok (.iload_n 2, 1) := by decide +kernel
theorem dX35_pay_30 : decode cX35_pay 30 = .ok (.baload, 1) := by decide +kernel
theorem dX35_pay_31 : decode cX35_pay 31 = .ok (.ifCond .eq 112, 3) := by decide +kernel
theorem dX35_pay_34 : decode cX35_pay 34 = .ok (.iload_n 1, 1) := by decide +kernel
theorem dX35_pay_35 : decode cX35_pay 35 = .ok (.iconst (-1), 1) := by decide +kernel
theorem dX35_pay_36 : decode cX35_pay 36 = .ok (.if_icmp .eq 22, 3) := by decide +kernel
theorem dX35_pay_39 : decode cX35_pay 39 = .ok (.aload_n 0, 1) := by decide +kernel
theorem dX35_pay_40 : decode cX35_pay 40 = .ok (.getfield 23, 3) := by decide +kernel
theorem dX35_pay_43 : decode cX35_pay 43 = .ok (.aload_n 3, 1) := by decide +kernel
theorem dX35_pay_44 : decode cX35_pay 44 = .ok (.getfield 157, 3) := by decide +kernel
theorem dX35_pay_47 : decode cX35_pay 47 = .ok (.invokevirtual 161, 3) := by decide +kernel
theorem dX35_pay_50 : decode cX35_pay 50 = .ok (.iaload, 1) := by decide +kernel
theorem dX35_pay_51 : decode cX35_pay 51 = .ok (.iload_n 1, 1) := by decide +kernel
theorem dX35_pay_52 : decode cX35_pay 52 = .ok (.if_icmp .eq 6, 3) := by decide +kernel
theorem dX35_pay_55 : decode cX35_pay 55 = .ok (.goto 88, 3) := by decide +kernel
theorem dX35_pay_58 : decode cX35_pay 58 = .ok (.lconst 1, 1) := by decide +kernel
theorem dX35_pay_59 : decode cX35_pay 59 = .ok (.lstore 4, 2) := by decide +kernel
theorem dX35_pay_61 : decode cX35_pay 61 = .ok (.iconst 0, 1) := by decide +kernel
theorem dX35_pay_62 : decode cX35_pay 62 = .ok (.istore 6, 2) := by decide +kernel
theorem dX35_pay_64 : decode cX35_pay 64 = .ok (.iload 6, 2) := by decide +kernel
theorem dX35_pay_66 : decode cX35_pay 66 = .ok (.aload_n 3, 1) := by decide +kernel
theorem dX35_pay_67 : decode cX35_pay 67 = .ok (.getfield 131, 3) := by decide +kernel
theorem dX35_pay_70 : decode cX35_pay 70 = .ok (.invokevirtual 84, 3) := by decide +kernel
theorem dX35_pay_73 : decode cX35_pay 73 = .ok (.if_icmp .ge 53, 3) := by decide +kernel
theorem dX35_pay_76 : decode cX35_pay 76 = .ok (.aload_n 3, 1) := by decide +kernel
theorem dX35_pay_77 : decode cX35_pay 77 = .ok (.getfield 131, 3) := by decide +kernel
theorem dX35_pay_80 : decode cX35_pay 80 = .ok (.iload 6, 2) := by decide +kernel
theorem dX35_pay_82 : decode cX35_pay 82 = .ok (.invokevirtual 128, 3) := by decide +kernel
theorem dX35_pay_85 : decode cX35_pay 85 = .ok (.checkcast 116, 3) := by decide +kernel
theorem dX35_pay_88 : decode cX35_pay 88 = .ok (.astore 7, 2) := by decide +kernel
theorem dX35_pay_90 : decode cX35_pay 90 = .ok (.aload 7, 2) := by decide +kernel
theorem dX35_pay_92 : decode cX35_pay 92 = .ok (.invokevirtual 154, 3) := by decide +kernel
theorem dX35_pay_95 : decode cX35_pay 95 = .ok (.ifCond .ne 25, 3) := by decide +kernel
theorem dX35_pay_98 : decode cX35_pay 98 = .ok (.lload 4, 2) := by decide +kernel
theorem dX35_pay_100 : decode cX35_pay 100 = .ok (.aload_n 0, 1) := by decide +kernel
theorem dX35_pay_101 : decode cX35_pay 101 = .ok (.getfield 74, 3) := by decide +kernel
theorem dX35_pay_104 : decode cX35_pay 104 = .ok (.aload 7, 2) := by decide +kernel
theorem dX35_pay_106 : decode cX35_pay 106 = .ok (.invokevirtual 161, 3) := by decide +kernel
theorem dX35_pay_109 : decode cX35_pay 109 = .ok (.iaload, 1) := by decide +kernel
theorem dX35_pay_110 : decode cX35_pay 110 = .ok (.i2l, 1) := by decide +kernel
theorem dX35_pay_111 : decode cX35_pay 111 = .ok (.lmul, 1) := by decide +kernel
theorem dX35_pay_112 : decode cX35_pay 112 = .ok (.ldc2_w 256, 3) := by decide +kernel
theorem dX35_pay_115 : decode cX35_pay 115 = .ok (.invokestatic 258, 3) := by decide +kernel
theorem dX35_pay_118 : decode cX35_pay 118 = .ok (.lstore 4, 2) := by decide +kernel
theorem dX35_pay_120 : decode cX35_pay 120 = .ok (.iinc 6 1, 3) := by decide +kernel
theorem dX35_pay_123 : decode cX35_pay 123 = .ok (.goto (-59), 3) := by decide +kernel
theorem dX35_pay_126 : decode cX35_pay 126 = .ok (.aload_n 0, 1) := by decide +kernel
theorem dX35_pay_127 : decode cX35_pay 127 = .ok (.aload_n 0, 1) := by decide +kernel
theorem dX35_pay_128 : decode cX35_pay 128 = .ok (.getfield 240, 3) := by decide +kernel
theorem dX35_pay_131 : decode cX35_pay 131 = .ok (.lload 4, 2) := by decide +kernel
theorem dX35_pay_133 : decode cX35_pay 133 = .ok (.ladd, 1) := by decide +kernel
theorem dX35_pay_134 : decode cX35_pay 134 = .ok (.ldc2_w 256, 3) := by decide +kernel
theorem dX35_pay_137 : decode cX35_pay 137 = .ok (.invokestatic 258, 3) := by decide +kernel
theorem dX35_pay_140 : decode cX35_pay 140 = .ok (.putfield 240, 3) := by decide +kernel
theorem dX35_pay_143 : decode cX35_pay 143 = .ok (.iinc 2 1, 3) := by decide +kernel
theorem dX35_pay_146 : decode cX35_pay 146 = .ok (.goto (-144), 3) := by decide +kernel
theorem dX35_pay_149 : decode cX35_pay 149 = .ok (.aload_n 0, 1) := by decide +kernel
theorem dX35_pay_150 : decode cX35_pay 150 = .ok (.aload_n 0, 1) := by decide +kernel
theorem dX35_pay_151 : decode cX35_pay 151 = .ok (.getfield 240, 3) := by decide +kernel
theorem dX35_pay_154 : decode cX35_pay 154 = .ok (.ldc2_w 262, 3) := by decide +kernel
theorem dX35_pay_157 : decode cX35_pay 157 = .ok (.lcmp, 1) := by decide +kernel
theorem dX35_pay_158 : decode cX35_pay 158 = .ok (.ifCond .le 7, 3) := by decide +kernel
theorem dX35_pay_161 : decode cX35_pay 161 = .ok (.iconst 1, 1) := by decide +kernel
theorem dX35_pay_162 : decode cX35_pay 162 = .ok (.goto 4, 3) := by decide +kernel
theorem dX35_pay_165 : decode cX35_pay 165 = .ok (.iconst 0, 1) := by decide +kernel
theorem dX35_pay_166 : decode cX35_pay 166 = .ok (.putfield 237, 3) := by decide +kernel
theorem dX35_pay_169 : decode cX35_pay 169 = .ok (.return_, 1) := by decide +kernel
abbrev cX35_give : ByteArray := prog_58_method_28_code
def yX35_give : MethodName := ⟨RX35, "give", "(LKnowHouse$RuleEngine$Rule;Z)V"⟩
theorem dX35_give_0 : decode cX35_give 0 = .ok (.aload_n 1, 1) := by decide +kernel
theorem dX35_give_1 : decode cX35_give 1 = .ok (.getfield 140, 3) := by decide +kernel
theorem dX35_give_4 : decode cX35_give 4 = .ok (.iconst (-1), 1) := by decide +kernel
theorem dX35_give_5 : decode cX35_give 5 = .ok (.if_icmp .eq 59, 3) := by decide +kernel
theorem dX35_give_8 : decode cX35_give 8 = .ok (.iload_n 2, 1) := by decide +kernel
theorem dX35_give_9 : decode cX35_give 9 = .ok (.ifCond .ne 4, 3) := by decide +kernel
theorem dX35_give_12 : decode cX35_give 12 = .ok (.return_, 1) := by decide +kernel
theorem dX35_give_13 : decode cX35_give 13 = .ok (.aload_n 0, 1) := by decide +kernel
theorem dX35_give_14 : decode cX35_give 14 = .ok (.aload_n 1, 1) := by decide +kernel
theorem dX35_give_15 : decode cX35_give 15 = .ok (.invokevirtual 217, 3) := by decide +kernel
theorem dX35_give_18 : decode cX35_give 18 = .ok (.iconst 0, 1) := by decide +kernel
theorem dX35_give_19 : decode cX35_give 19 = .ok (.istore_n 3, 1) := by decide +kernel
theorem dX35_give_20 : decode cX35_give 20 = .ok (.iload_n 3, 1) := by decide +kernel
theorem dX35_give_21 : decode cX35_give 21 = .ok (.bipush 32, 2) := by decide +kernel
theorem dX35_give_23 : decode cX35_give 23 = .ok (.if_icmp .ge 40, 3) := by decide +kernel
theorem dX35_give_26 : decode cX35_give 26 = .ok (.aload_n 0, 1) := by decide +kernel
theorem dX35_give_27 : decode cX35_give 27 = .ok (.getfield 71, 3) := by decide +kernel
theorem dX35_give_30 : decode cX35_give 30 = .ok (.iload_n 3, 1) := by decide +kernel
theorem dX35_give_31 : decode cX35_give 31 = .ok (.iaload, 1) := by decide +kernel
theorem dX35_give_32 : decode cX35_give 32 = .ok (.iconst (-1), 1) := by decide +kernel
theorem dX35_give_33 : decode cX35_give 33 = .ok (.if_icmp .eq 24, 3) := by decide +kernel
theorem dX35_give_36 : decode cX35_give 36 = .ok (.aload_n 0, 1) := by decide +kernel
theorem dX35_give_37 : decode cX35_give 37 = .ok (.aload_n 1, 1) := by decide +kernel
theorem dX35_give_38 : decode cX35_give 38 = .ok (.getfield 157, 3) := by decide +kernel
theorem dX35_give_41 : decode cX35_give 41 = .ok (.invokevirtual 161, 3) := by decide +kernel
theorem dX35_give_44 : decode cX35_give 44 = .ok (.iload_n 3, 1) := by decide +kernel
theorem dX35_give_45 : decode cX35_give 45 = .ok (.aload_n 0, 1) := by decide +kernel
theorem dX35_give_46 : decode cX35_give 46 = .ok (.getfield 71, 3) := by decide +kernel
theorem dX35_give_49 : decode cX35_give 49 = .ok (.iload_n 3, 1) := by decide +kernel
theorem dX35_give_50 : decode cX35_give 50 = .ok (.iaload, 1) := by decide +kernel
theorem dX35_give_51 : decode cX35_give 51 = .ok (.invokestatic 92, 3) := by decide +kernel
theorem dX35_give_54 : decode cX35_give 54 = .ok (.invokevirtual 221, 3) := by decide +kernel
theorem dX35_give_57 : decode cX35_give 57 = .ok (.iinc 3 1, 3) := by decide +kernel
theorem dX35_give_60 : decode cX35_give 60 = .ok (.goto (-40), 3) := by decide +kernel
theorem dX35_give_63 : decode cX35_give 63 = .ok (.return_, 1) := by decide +kernel
theorem dX35_give_64 : decode cX35_give 64 = .ok (.aload_n 0, 1) := by decide +kernel
theorem dX35_give_65 : decode cX35_give 65 = .ok (.invokevirtual 214, 3) := by decide +kernel
theorem dX35_give_68 : decode cX35_give 68 = .ok (.iload_n 2, 1) := by decide +kernel
theorem dX35_give_69 : decode cX35_give 69 = .ok (.ifCond .eq 15, 3) := by decide +kernel
theorem dX35_give_72 : decode cX35_give 72 = .ok (.aload_n 0, 1) := by decide +kernel
theorem dX35_give_73 : decode cX35_give 73 = .ok (.aload_n 1, 1) := by decide +kernel
theorem dX35_give_74 : decode cX35_give 74 = .ok (.iconst 0, 1) := by decide +kernel
theorem dX35_give_75 : decode cX35_give 75 = .ok (.iconst (-1), 1) := by decide +kernel
theorem dX35_give_76 : decode cX35_give 76 = .ok (.aload_n 0, 1) := by decide +kernel
theorem dX35_give_77 : decode cX35_give 77 = .ok (.getfield 55, 3) := by decide +kernel
theorem dX35_give_80 : decode cX35_give 80 = .ok (.invokestatic 184, 3) := by decide +kernel
theorem dX35_give_83 : decode cX35_give 83 = .ok (.return_, 1) := by decide +kernel
theorem dX35_give_84 : decode cX35_give 84 = .ok (.iconst 0, 1) := by decide +kernel
theorem dX35_give_85 : decode cX35_give 85 = .ok (.istore_n 3, 1) := by decide +kernel
theorem dX35_give_86 : decode cX35_give 86 = .ok (.iload_n 3, 1) := by decide +kernel
theorem dX35_give_87 : decode cX35_give 87 = .ok (.aload_n 1, 1) := by decide +kernel
theorem dX35_give_88 : decode cX35_give 88 = .ok (.getfield 131, 3) := by decide +kernel
theorem dX35_give_91 : decode cX35_give 91 = .ok (.invokevirtual 84, 3) := by decide +kernel
theorem dX35_give_94 : decode cX35_give 94 = .ok (.if_icmp .ge 37, 3) := by decide +kernel
theorem dX35_give_97 : decode cX35_give 97 = .ok (.aload_n 1, 1) := by decide +kernel
theorem dX35_give_98 : decode cX35_give 98 = .ok (.getfield 131, 3) := by decide +kernel
theorem dX35_give_101 : decode cX35_give 101 = .ok (.iload_n 3, 1) := by decide +kernel
theorem dX35_give_102 : decode cX35_give 102 = .ok (.invokevirtual 128, 3) := by decide +kernel
theorem dX35_give_105 : decode cX35_give 105 = .ok (.checkcast 116, 3) := by decide +kernel
theorem dX35_give_108 : decode cX35_give 108 = .ok (.invokevirtual 154, 3) := by decide +kernel
theorem dX35_give_111 : decode cX35_give 111 = .ok (.ifCond .ne 14, 3) := by decide +kernel
theorem dX35_give_114 : decode cX35_give 114 = .ok (.aload_n 0, 1) := by decide +kernel
theorem dX35_give_115 : decode cX35_give 115 = .ok (.aload_n 1, 1) := by decide +kernel
theorem dX35_give_116 : decode cX35_give 116 = .ok (.iconst 0, 1) := by decide +kernel
theorem dX35_give_117 : decode cX35_give 117 = .ok (.iload_n 3, 1) := by decide +kernel
theorem dX35_give_118 : decode cX35_give 118 = .ok (.aload_n 0, 1) := by decide +kernel
theorem dX35_give_119 : decode cX35_give 119 = .ok (.getfield 55, 3) := by decide +kernel
theorem dX35_give_122 : decode cX35_give 122 = .ok (.invokestatic 184, 3) := by decide +kernel
theorem dX35_give_125 : decode cX35_give 125 = .ok (.iinc 3 1, 3) := by decide +kernel
theorem dX35_give_128 : decode cX35_give 128 = .ok (.goto (-42), 3) := by decide +kernel
theorem dX35_give_131 : decode cX35_give 131 = .ok (.return_, 1) := by decide +kernel
abbrev cX35_gather : ByteArray := prog_58_method_27_code
def yX35_gather : MethodName := ⟨RX35, "gather", "(LKnowHouse$RuleEngine$Rule;)V"⟩
theorem dX35_gather_0 : decode cX35_gather 0 = .ok (.iconst 0, 1) := by decide +kernel
theorem dX35_gather_1 : decode cX35_gather 1 = .ok (.istore_n 2, 1) := by decide +kernel
theorem dX35_gather_2 : decode cX35_gather 2 = .ok (.iload_n 2, 1) := by decide +kernel
theorem dX35_gather_3 : decode cX35_gather 3 = .ok (.bipush 32, 2) := by decide +kernel
theorem dX35_gather_5 : decode cX35_gather 5 = .ok (.if_icmp .ge 16, 3) := by decide +kernel
theorem dX35_gather_8 : decode cX35_gather 8 = .ok (.aload_n 0, 1) := by decide +kernel
theorem dX35_gather_9 : decode cX35_gather 9 = .ok (.getfield 71, 3) := by decide +kernel
theorem dX35_gather_12 : decode cX35_gather 12 = .ok (.iload_n 2, 1) := by decide +kernel
theorem dX35_gather_13 : decode cX35_gather 13 = .ok (.iconst (-1), 1) := by decide +kernel
theorem dX35_gather_14 : decode cX35_gather 14 = .ok (.iastore, 1) := by decide +kernel
theorem dX35_gather_15 : decode cX35_gather 15 = .ok (.iinc 2 1, 3) := by decide +kernel
theorem dX35_gather_18 : decode cX35_gather 18 = .ok (.goto (-16), 3) := by decide +kernel
theorem dX35_gather_21 : decode cX35_gather 21 = .ok (.aload_n 0, 1) := by decide +kernel
theorem dX35_gather_22 : decode cX35_gather 22 = .ok (.invokevirtual 214, 3) := by decide +kernel
theorem dX35_gather_25 : decode cX35_gather 25 = .ok (.aload_n 0, 1) := by decide +kernel
theorem dX35_gather_26 : decode cX35_gather 26 = .ok (.aload_n 1, 1) := by decide +kernel
theorem dX35_gather_27 : decode cX35_gather 27 = .ok (.iconst 0, 1) := by decide +kernel
theorem dX35_gather_28 : decode cX35_gather 28 = .ok (.iconst (-1), 1) := by decide +kernel
theorem dX35_gather_29 : decode cX35_gather 29 = .ok (.aload_n 0, 1) := by decide +kernel
theorem dX35_gather_30 : decode cX35_gather 30 = .ok (.getfield 68, 3) := by decide +kernel
theorem dX35_gather_33 : decode cX35_gather 33 = .ok (.invokestatic 184, 3) := by decide +kernel
theorem dX35_gather_36 : decode cX35_gather 36 = .ok (.return_, 1) := by decide +kernel
abbrev cX35_free : ByteArray := prog_58_method_20_code
def yX35_free : MethodName := ⟨RX35, "free", "()V"⟩
theorem dX35_free_0 : decode cX35_free 0 = .ok (.iconst 0, 1) := by decide +kernel
theorem dX35_free_1 : decode cX35_free 1 = .ok (.istore_n 1, 1) := by decide +kernel
theorem dX35_free_2 : decode cX35_free 2 = .ok (.iload_n 1, 1) := by decide +kernel
theorem dX35_free_3 : decode cX35_free 3 = .ok (.bipush 6, 2) := by decide +kernel
theorem dX35_free_5 : decode cX35_free 5 = .ok (.if_icmp .ge 16, 3) := by decide +kernel
theorem dX35_free_8 : decode cX35_free 8 = .ok (.aload_n 0, 1) := by decide +kernel
theorem dX35_free_9 : decode cX35_free 9 = .ok (.getfield 49, 3) := by decide +kernel
theorem dX35_free_12 : decode cX35_free 12 = .ok (.iload_n 1, 1) := by decide +kernel
theorem dX35_free_13 : decode cX35_free 13 = .ok (.iconst (-1), 1) := by decide +kernel
theorem dX35_free_14 : decode cX35_free 14 = .ok (.iastore, 1) := by decide +kernel
theorem dX35_free_15 : decode cX35_free 15 = .ok (.iinc 1 1, 3) := by decide +kernel
theorem dX35_free_18 : decode cX35_free 18 = .ok (.goto (-16), 3) := by decide +kernel
theorem dX35_free_21 : decode cX35_free 21 = .ok (.return_, 1) := by decide +kernel
abbrev cX35_cases : ByteArray := prog_58_method_22_code
def yX35_cases : MethodName := ⟨RX35, "cases", "(LKnowHouse$RuleEngine;LKnowHouse$RuleEngine$Rule;IILKnowHouse$RuleEngine$Found;)V"⟩
theorem dX35_cases_0 : decode cX35_cases 0 = .ok (.iload_n 2, 1) := by decide +kernel
theorem dX35_cases_1 : decode cX35_cases 1 = .ok (.aload_n 1, 1) := by decide +kernel
theorem dX35_cases_2 : decode cX35_cases 2 = .ok (.getfield 131, 3) := by decide +kernel
theorem dX35_cases_5 : decode cX35_cases 5 = .ok (.invokevirtual 84, 3) := by decide +kernel
theorem dX35_cases_8 : decode cX35_cases 8 = .ok (.if_icmp .ne 19, 3) := by decide +kernel
theorem dX35_cases_11 : decode cX35_cases 11 = .ok (.aload_n 0, 1) := by decide +kernel
theorem dX35_cases_12 : decode cX35_cases 12 = .ok (.aload_n 1, 1) := by decide +kernel
theorem dX35_cases_13 : decode cX35_cases 13 = .ok (.invokevirtual 174, 3) := by decide +kernel
theorem dX35_cases_16 : decode cX35_cases 16 = .ok (.ifCond .eq 10, 3) := by decide +kernel
theorem dX35_cases_19 : decode cX35_cases 19 = .ok (.aload 4, 2) := by decide +kernel
theorem dX35_cases_21 : decode cX35_cases 21 = .ok (.aload_n 0, 1) := by decide +kernel
theorem dX35_cases_22 : decode cX35_cases 22 = .ok (.aload_n 1, 1) := by decide +kernel
theorem dX35_cases_23 : decode cX35_cases 23 = .ok (.invokevirtual 178, 3) := by decide +kernel
theorem dX35_cases_26 : decode cX35_cases 26 = .ok (.return_, 1) := by decide +kernel
theorem dX35_cases_27 : decode cX35_cases 27 = .ok (.aload_n 1, 1) := by decide +kernel
theorem dX35_cases_28 : decode cX35_cases 28 = .ok (.getfield 131, 3) := by decide +kernel
theorem dX35_cases_31 : decode cX35_cases 31 = .ok (.iload_n 2, 1) := by decide +kernel
theorem dX35_cases_32 : decode cX35_cases 32 = .ok (.invokevirtual 128, 3) := by decide +kernel
theorem dX35_cases_35 : decode cX35_cases 35 = .ok (.checkcast 116, 3) := by decide +kernel
theorem dX35_cases_38 : decode cX35_cases 38 = .ok (.astore 5, 2) := by decide +kernel
theorem dX35_cases_40 : decode cX35_cases 40 = .ok (.aload 5, 2) := by decide +kernel
theorem dX35_cases_42 : decode cX35_cases 42 = .ok (.invokevirtual 154, 3) := by decide +kernel
theorem dX35_cases_45 : decode cX35_cases 45 = .ok (.ifCond .eq 15, 3) := by decide +kernel
theorem dX35_cases_48 : decode cX35_cases 48 = .ok (.aload_n 0, 1) := by decide +kernel
theorem dX35_cases_49 : decode cX35_cases 49 = .ok (.aload_n 1, 1) := by decide +kernel
theorem dX35_cases_50 : decode cX35_cases 50 = .ok (.iload_n 2, 1) := by decide +kernel
theorem dX35_cases_51 : decode cX35_cases 51 = .ok (.iconst 1, 1) := by decide +kernel
theorem dX35_cases_52 : decode cX35_cases 52 = .ok (.iadd, 1) := by decide +kernel
theorem dX35_cases_53 : decode cX35_cases 53 = .ok (.iload_n 3, 1) := by decide +kernel
theorem dX35_cases_54 : decode cX35_cases 54 = .ok (.aload 4, 2) := by decide +kernel
theorem dX35_cases_56 : decode cX35_cases 56 = .ok (.invokestatic 184, 3) := by decide +kernel
theorem dX35_cases_59 : decode cX35_cases 59 = .ok (.return_, 1) := by decide +kernel
theorem dX35_cases_60 : decode cX35_cases 60 = .ok (.iload_n 2, 1) := by decide +kernel
theorem dX35_cases_61 : decode cX35_cases 61 = .ok (.iload_n 3, 1) := by decide +kernel
theorem dX35_cases_62 : decode cX35_cases 62 = .ok (.if_icmp .ne 10, 3) := by decide +kernel
theorem dX35_cases_65 : decode cX35_cases 65 = .ok (.aload_n 0, 1) := by decide +kernel
theorem dX35_cases_66 : decode cX35_cases 66 = .ok (.getfield 43, 3) := by decide +kernel
theorem dX35_cases_69 : decode cX35_cases 69 = .ok (.goto 7, 3) := by decide +kernel
theorem dX35_cases_72 : decode cX35_cases 72 = .ok (.aload_n 0, 1) := by decide +kernel
theorem dX35_cases_73 : decode cX35_cases 73 = .ok (.getfield 34, 3) := by decide +kernel
theorem dX35_cases_76 : decode cX35_cases 76 = .ok (.astore 6, 2) := by decide +kernel
theorem dX35_cases_78 : decode cX35_cases 78 = .ok (.aload_n 0, 1) := by decide +kernel
theorem dX35_cases_79 : decode cX35_cases 79 = .ok (.aload 5, 2) := by decide +kernel
theorem dX35_cases_81 : decode cX35_cases 81 = .ok (.invokevirtual 188, 3) := by decide +kernel
theorem dX35_cases_84 : decode cX35_cases 84 = .ok (.invokevirtual 191, 3) := by decide +kernel
theorem dX35_cases_87 : decode cX35_cases 87 = .ok (.istore 7, 2) := by decide +kernel
theorem dX35_cases_89 : decode cX35_cases 89 = .ok (.aload 5, 2) := by decide +kernel
theorem dX35_cases_91 : decode cX35_cases 91 = .ok (.invokevirtual 161, 3) := by decide +kernel
theorem dX35_cases_94 : decode cX35_cases 94 = .ok (.iload 7, 2) := by decide +kernel
theorem dX35_cases_96 : decode cX35_cases 96 = .ok (.iconst 0, 1) := by decide +kernel
theorem dX35_cases_97 : decode cX35_cases 97 = .ok (.invokestatic 195, 3) := by decide +kernel
theorem dX35_cases_100 : decode cX35_cases 100 = .ok (.iconst 0, 1) := by decide +kernel
theorem dX35_cases_101 : decode cX35_cases 101 = .ok (.invokestatic 92, 3) := by decide +kernel
theorem dX35_cases_104 : decode cX35_cases 104 = .ok (.istore 8, 2) := by decide +kernel
theorem dX35_cases_106 : decode cX35_cases 106 = .ok (.aload 5, 2) := by decide +kernel
theorem dX35_cases_108 : decode cX35_cases 108 = .ok (.invokevirtual 161, 3) := by decide +kernel
theorem dX35_cases_111 : decode cX35_cases 111 = .ok (.iload 7, 2) := by decide +kernel
theorem dX35_cases_113 : decode cX35_cases 113 = .ok (.iconst (-1), 1) := by decide +kernel
theorem dX35_cases_114 : decode cX35_cases 114 = .ok (.if_icmp .ne 8, 3) := by decide +kernel
theorem dX35_cases_117 : decode cX35_cases 117 = .ok (.bipush 31, 2) := by decide +kernel
theorem dX35_cases_119 : decode cX35_cases 119 = .ok (.goto 5, 3) := by decide +kernel
theorem dX35_cases_122 : decode cX35_cases 122 = .ok (.iload 7, 2) := by decide +kernel
theorem dX35_cases_124 : decode cX35_cases 124 = .ok (.bipush 31, 2) := by decide +kernel
theorem dX35_cases_126 : decode cX35_cases 126 = .ok (.invokestatic 92, 3) := by decide +kernel
theorem dX35_cases_129 : decode cX35_cases 129 = .ok (.istore 9, 2) := by decide +kernel
theorem dX35_cases_131 : decode cX35_cases 131 = .ok (.aload 6, 2) := by decide +kernel
theorem dX35_cases_133 : decode cX35_cases 133 = .ok (.iload 8, 2) := by decide +kernel
theorem dX35_cases_135 : decode cX35_cases 135 = .ok (.invokevirtual 201, 3) := by decide +kernel
theorem dX35_cases_138 : decode cX35_cases 138 = .ok (.istore 10, 2) := by decide +kernel
theorem dX35_cases_140 : decode cX35_cases 140 = .ok (.iload 10, 2) := by decide +kernel
theorem dX35_cases_142 : decode cX35_cases 142 = .ok (.ifCond .lt 141, 3) := by decide +kernel
theorem dX35_cases_145 : decode cX35_cases 145 = .ok (.iload 10, 2) := by decide +kernel
theorem dX35_cases_147 : decode cX35_cases 147 = .ok (.iload 9, 2) := by decide +kernel
theorem dX35_cases_149 : decode cX35_cases 149 = .ok (.if_icmp .gt 134, 3) := by decide +kernel
theorem dX35_cases_152 : decode cX35_cases 152 = .ok (.iload 10, 2) := by decide +kernel
theorem dX35_cases_154 : decode cX35_cases 154 = .ok (.iconst 5, 1) := by decide +kernel
theorem dX35_cases_155 : decode cX35_cases 155 = .ok (.ishr, 1) := by decide +kernel
theorem dX35_cases_156 : decode cX35_cases 156 = .ok (.bipush 31, 2) := by decide +kernel
theorem dX35_cases_158 : decode cX35_cases 158 = .ok (.iand, 1) := by decide +kernel
theorem dX35_cases_159 : decode cX35_cases 159 = .ok (.istore 11, 2) := by decide +kernel
theorem dX35_cases_161 : decode cX35_cases 161 = .ok (.iload 10, 2) := by decide +kernel
theorem dX35_cases_163 : decode cX35_cases 163 = .ok (.bipush 31, 2) := by decide +kernel
theorem dX35_cases_165 : decode cX35_cases 165 = .ok (.iand, 1) := by decide +kernel
theorem dX35_cases_166 : decode cX35_cases 166 = .ok (.istore 12, 2) := by decide +kernel
theorem dX35_cases_168 : decode cX35_cases 168 = .ok (.aload_n 0, 1) := by decide +kernel
theorem dX35_cases_169 : decode cX35_cases 169 = .ok (.aload 5, 2) := by decide +kernel
theorem dX35_cases_171 : decode cX35_cases 171 = .ok (.invokevirtual 188, 3) := by decide +kernel
theorem dX35_cases_174 : decode cX35_cases 174 = .ok (.iload 11, 2) := by decide +kernel
theorem dX35_cases_176 : decode cX35_cases 176 = .ok (.invokevirtual 204, 3) := by decide +kernel
theorem dX35_cases_179 : decode cX35_cases 179 = .ok (.istore 13, 2) := by decide +kernel
theorem dX35_cases_181 : decode cX35_cases 181 = .ok (.aload_n 0, 1) := by decide +kernel
theorem dX35_cases_182 : decode cX35_cases 182 = .ok (.aload 5, 2) := by decide +kernel
theorem dX35_cases_184 : decode cX35_cases 184 = .ok (.invokevirtual 208, 3) := by decide +kernel
theorem dX35_cases_187 : decode cX35_cases 187 = .ok (.iload 12, 2) := by decide +kernel
theorem dX35_cases_189 : decode cX35_cases 189 = .ok (.invokevirtual 204, 3) := by decide +kernel
theorem dX35_cases_192 : decode cX35_cases 192 = .ok (.istore 14, 2) := by decide +kernel
theorem dX35_cases_194 : decode cX35_cases 194 = .ok (.aload_n 0, 1) := by decide +kernel
theorem dX35_cases_195 : decode cX35_cases 195 = .ok (.aload 5, 2) := by decide +kernel
theorem dX35_cases_197 : decode cX35_cases 197 = .ok (.invokevirtual 188, 3) := by decide +kernel
theorem dX35_cases_200 : decode cX35_cases 200 = .ok (.invokevirtual 191, 3) := by decide +kernel
theorem dX35_cases_203 : decode cX35_cases 203 = .ok (.iload 11, 2) := by decide +kernel
theorem dX35_cases_205 : decode cX35_cases 205 = .ok (.if_icmp .ne 28, 3) := by decide +kernel
theorem dX35_cases_208 : decode cX35_cases 208 = .ok (.aload_n 0, 1) := by decide +kernel
theorem dX35_cases_209 : decode cX35_cases 209 = .ok (.aload 5, 2) := by decide +kernel
theorem dX35_cases_211 : decode cX35_cases 211 = .ok (.invokevirtual 208, 3) := by decide +kernel
theorem dX35_cases_214 : decode cX35_cases 214 = .ok (.invokevirtual 191, 3) := by decide +kernel
theorem dX35_cases_217 : decode cX35_cases 217 = .ok (.iload 12, 2) := by decide +kernel
theorem dX35_cases_219 : decode cX35_cases 219 = .ok (.if_icmp .ne 14, 3) := by decide +kernel
theorem dX35_cases_222 : decode cX35_cases 222 = .ok (.aload_n 0, 1) := by decide +kernel
theorem dX35_cases_223 : decode cX35_cases 223 = .ok (.aload_n 1, 1) := by decide +kernel
theorem dX35_cases_224 : decode cX35_cases 224 = .ok (.iload_n 2, 1) := by decide +kernel
theorem dX35_cases_225 : decode cX35_cases 225 = .ok (.iconst 1, 1) := by decide +kernel
theorem dX35_cases_226 : decode cX35_cases 226 = .ok (.iadd, 1) := by decide +kernel
theorem dX35_cases_227 : decode cX35_cases 227 = .ok (.iload_n 3, 1) := by decide +kernel
theorem dX35_cases_228 : decode cX35_cases 228 = .ok (.aload 4, 2) := by decide +kernel
theorem dX35_cases_230 : decode cX35_cases 230 = .ok (.invokestatic 184, 3) := by decide +kernel
theorem dX35_cases_233 : decode cX35_cases 233 = .ok (.iload 13, 2) := by decide +kernel
theorem dX35_cases_235 : decode cX35_cases 235 = .ok (.ifCond .eq 16, 3) := by decide +kernel
theorem dX35_cases_238 : decode cX35_cases 238 = .ok (.aload_n 0, 1) := by decide +kernel
theorem dX35_cases_239 : decode cX35_cases 239 = .ok (.getfield 49, 3) := by decide +kernel
theorem dX35_cases_242 : decode cX35_cases 242 = .ok (.iconst (-1), 1) := by decide +kernel
theorem dX35_cases_243 : decode cX35_cases 243 = .ok (.aload 5, 2) := by decide +kernel
theorem dX35_cases_245 : decode cX35_cases 245 = .ok (.invokevirtual 188, 3) := by decide +kernel
theorem dX35_cases_248 : decode cX35_cases 248 = .ok (.isub, 1) := by decide +kernel
theorem dX35_cases_249 : decode cX35_cases 249 = .ok (.iconst (-1), 1) := by decide +kernel
theorem dX35_cases_250 : decode cX35_cases 250 = .ok (.iastore, 1) := by decide +kernel
theorem dX35_cases_251 : decode cX35_cases 251 = .ok (.iload 14, 2) := by decide +kernel
theorem dX35_cases_253 : decode cX35_cases 253 = .ok (.ifCond .eq 16, 3) := by decide +kernel
theorem dX35_cases_256 : decode cX35_cases 256 = .ok (.aload_n 0, 1) := by decide +kernel
theorem dX35_cases_257 : decode cX35_cases 257 = .ok (.getfield 49, 3) := by decide +kernel
theorem dX35_cases_260 : decode cX35_cases 260 = .ok (.iconst (-1), 1) := by decide +kernel
theorem dX35_cases_261 : decode cX35_cases 261 = .ok (.aload 5, 2) := by decide +kernel
theorem dX35_cases_263 : decode cX35_cases 263 = .ok (.invokevirtual 208, 3) := by decide +kernel
theorem dX35_cases_266 : decode cX35_cases 266 = .ok (.isub, 1) := by decide +kernel
theorem dX35_cases_267 : decode cX35_cases 267 = .ok (.iconst (-1), 1) := by decide +kernel
theorem dX35_cases_268 : decode cX35_cases 268 = .ok (.iastore, 1) := by decide +kernel
theorem dX35_cases_269 : decode cX35_cases 269 = .ok (.aload 6, 2) := by decide +kernel
theorem dX35_cases_271 : decode cX35_cases 271 = .ok (.iload 10, 2) := by decide +kernel
theorem dX35_cases_273 : decode cX35_cases 273 = .ok (.iconst 1, 1) := by decide +kernel
theorem dX35_cases_274 : decode cX35_cases 274 = .ok (.iadd, 1) := by decide +kernel
theorem dX35_cases_275 : decode cX35_cases 275 = .ok (.invokevirtual 201, 3) := by decide +kernel
theorem dX35_cases_278 : decode cX35_cases 278 = .ok (.istore 10, 2) := by decide +kernel
theorem dX35_cases_280 : decode cX35_cases 280 = .ok (.goto (-140), 3) := by decide +kernel
theorem dX35_cases_283 : decode cX35_cases 283 = .ok (.return_, 1) := by decide +kernel
abbrev cX35_passes : ByteArray := prog_58_method_24_code
def yX35_passes : MethodName := ⟨RX35, "passes", "(LKnowHouse$RuleEngine$Rule;)Z"⟩
theorem dX35_passes_0 : decode cX35_passes 0 = .ok (.iconst 1, 1) := by decide +kernel
theorem dX35_passes_1 : decode cX35_passes 1 = .ok (.istore_n 2, 1) := by decide +kernel
theorem dX35_passes_2 : decode cX35_passes 2 = .ok (.iconst 0, 1) := by decide +kernel
theorem dX35_passes_3 : decode cX35_passes 3 = .ok (.istore_n 3, 1) := by decide +kernel
theorem dX35_passes_4 : decode cX35_passes 4 = .ok (.iload_n 3, 1) := by decide +kernel
theorem dX35_passes_5 : decode cX35_passes 5 = .ok (.aload_n 1, 1) := by decide +kernel
theorem dX35_passes_6 : decode cX35_passes 6 = .ok (.getfield 131, 3) := by decide +kernel
theorem dX35_passes_9 : decode cX35_passes 9 = .ok (.invokevirtual 84, 3) := by decide +kernel
theorem dX35_passes_12 : decode cX35_passes 12 = .ok (.if_icmp .ge 167, 3) := by decide +kernel
theorem dX35_passes_15 : decode cX35_passes 15 = .ok (.aload_n 1, 1) := by decide +kernel
theorem dX35_passes_16 : decode cX35_passes 16 = .ok (.getfield 131, 3) := by decide +kernel
theorem dX35_passes_19 : decode cX35_passes 19 = .ok (.iload_n 3, 1) := by decide +kernel
theorem dX35_passes_20 : decode cX35_passes 20 = .ok (.invokevirtual 128, 3) := by decide +kernel
theorem dX35_passes_23 : decode cX35_passes 23 = .ok (.checkcast 116, 3) := by decide +kernel
theorem dX35_passes_26 : decode cX35_passes 26 = .ok (.astore 4, 2) := by decide +kernel
theorem dX35_passes_28 : decode cX35_passes 28 = .ok (.aload_n 0, 1) := by decide +kernel
theorem dX35_passes_29 : decode cX35_passes 29 = .ok (.aload 4, 2) := by decide +kernel
theorem dX35_passes_31 : decode cX35_passes 31 = .ok (.invokevirtual 188, 3) := by decide +kernel
theorem dX35_passes_34 : decode cX35_passes 34 = .ok (.invokevirtual 191, 3) := by decide +kernel
theorem dX35_passes_37 : decode cX35_passes 37 = .ok (.istore 5, 2) := by decide +kernel
theorem dX35_passes_39 : decode cX35_passes 39 = .ok (.aload_n 0, 1) := by decide +kernel
theorem dX35_passes_40 : decode cX35_passes 40 = .ok (.aload 4, 2) := by decide +kernel
theorem dX35_passes_42 : decode cX35_passes 42 = .ok (.invokevirtual 208, 3) := by decide +kernel
theorem dX35_passes_45 : decode cX35_passes 45 = .ok (.invokevirtual 191, 3) := by decide +kernel
theorem dX35_passes_48 : decode cX35_passes 48 = .ok (.istore 6, 2) := by decide +kernel
theorem dX35_passes_50 : decode cX35_passes 50 = .ok (.aload 4, 2) := by decide +kernel
theorem dX35_passes_52 : decode cX35_passes 52 = .ok (.invokevirtual 154, 3) := by decide +kernel
theorem dX35_passes_55 : decode cX35_passes 55 = .ok (.tableswitch 101 0 3 #[29, 32, 65, 83], 29) := by decide +kernel
theorem dX35_passes_84 : decode cX35_passes 84 = .ok (.goto 89, 3) := by decide +kernel
theorem dX35_passes_87 : decode cX35_passes 87 = .ok (.iload_n 2, 1) := by decide +kernel
theorem dX35_passes_88 : decode cX35_passes 88 = .ok (.aload_n 0, 1) := by decide +kernel
theorem dX35_passes_89 : decode cX35_passes 89 = .ok (.getfield 34, 3) := by decide +kernel
theorem dX35_passes_92 : decode cX35_passes 92 = .ok (.aload 4, 2) := by decide +kernel
theorem dX35_passes_94 : decode cX35_passes 94 = .ok (.invokevirtual 161, 3) := by decide +kernel
theorem dX35_passes_97 : decode cX35_passes 97 = .ok (.iload 5, 2) := by decide +kernel
theorem dX35_passes_99 : decode cX35_passes 99 = .ok (.iload 6, 2) := by decide +kernel
theorem dX35_passes_101 : decode cX35_passes 101 = .ok (.invokestatic 92, 3) := by decide +kernel
theorem dX35_passes_104 : decode cX35_passes 104 = .ok (.invokevirtual 100, 3) := by decide +kernel
theorem dX35_passes_107 : decode cX35_passes 107 = .ok (.ifCond .ne 7, 3) := by decide +kernel
theorem dX35_passes_110 : decode cX35_passes 110 = .ok (.iconst 1, 1) := by decide +kernel
theorem dX35_passes_111 : decode cX35_passes 111 = .ok (.goto 4, 3) := by decide +kernel
theorem dX35_passes_114 : decode cX35_passes 114 = .ok (.iconst 0, 1) := by decide +kernel
theorem dX35_passes_115 : decode cX35_passes 115 = .ok (.iand, 1) := by decide +kernel
theorem dX35_passes_116 : decode cX35_passes 116 = .ok (.istore_n 2, 1) := by decide +kernel
theorem dX35_passes_117 : decode cX35_passes 117 = .ok (.goto 56, 3) := by decide +kernel
theorem dX35_passes_120 : decode cX35_passes 120 = .ok (.iload_n 2, 1) := by decide +kernel
theorem dX35_passes_121 : decode cX35_passes 121 = .ok (.iload 5, 2) := by decide +kernel
theorem dX35_passes_123 : decode cX35_passes 123 = .ok (.iload 6, 2) := by decide +kernel
theorem dX35_passes_125 : decode cX35_passes 125 = .ok (.if_icmp .ge 7, 3) := by decide +kernel
theorem dX35_passes_128 : decode cX35_passes 128 = .ok (.iconst 1, 1) := by decide +kernel
theorem dX35_passes_129 : decode cX35_passes 129 = .ok (.goto 4, 3) := by decide +kernel
theorem dX35_passes_132 : decode cX35_passes 132 = .ok (.iconst 0, 1) := by decide +kernel
theorem dX35_passes_133 : decode cX35_passes 133 = .ok (.iand, 1) := by decide +kernel
theorem dX35_passes_134 : decode cX35_passes 134 = .ok (.istore_n 2, 1) := by decide +kernel
theorem dX35_passes_135 : decode cX35_passes 135 = .ok (.goto 38, 3) := by decide +kernel
theorem dX35_passes_138 : decode cX35_passes 138 = .ok (.iload_n 2, 1) := by decide +kernel
theorem dX35_passes_139 : decode cX35_passes 139 = .ok (.iload 5, 2) := by decide +kernel
theorem dX35_passes_141 : decode cX35_passes 141 = .ok (.iload 6, 2) := by decide +kernel
theorem dX35_passes_143 : decode cX35_passes 143 = .ok (.if_icmp .eq 7, 3) := by decide +kernel
theorem dX35_passes_146 : decode cX35_passes 146 = .ok (.iconst 1, 1) := by decide +kernel
theorem dX35_passes_147 : decode cX35_passes 147 = .ok (.goto 4, 3) := by decide +kernel
theorem dX35_passes_150 : decode cX35_passes 150 = .ok (.iconst 0, 1) := by decide +kernel
theorem dX35_passes_151 : decode cX35_passes 151 = .ok (.iand, 1) := by decide +kernel
theorem dX35_passes_152 : decode cX35_passes 152 = .ok (.istore_n 2, 1) := by decide +kernel
theorem dX35_passes_153 : decode cX35_passes 153 = .ok (.goto 20, 3) := by decide +kernel
theorem dX35_passes_156 : decode cX35_passes 156 = .ok (.iload_n 2, 1) := by decide +kernel
theorem dX35_passes_157 : decode cX35_passes 157 = .ok (.iload 6, 2) := by decide +kernel
theorem dX35_passes_159 : decode cX35_passes 159 = .ok (.iload 5, 2) := by decide +kernel
theorem dX35_passes_161 : decode cX35_passes 161 = .ok (.iconst 1, 1) := by decide +kernel
theorem dX35_passes_162 : decode cX35_passes 162 = .ok (.iadd, 1) := by decide +kernel
theorem dX35_passes_163 : decode cX35_passes 163 = .ok (.if_icmp .ne 7, 3) := by decide +kernel
theorem dX35_passes_166 : decode cX35_passes 166 = .ok (.iconst 1, 1) := by decide +kernel
theorem dX35_passes_167 : decode cX35_passes 167 = .ok (.goto 4, 3) := by decide +kernel
theorem dX35_passes_170 : decode cX35_passes 170 = .ok (.iconst 0, 1) := by decide +kernel
theorem dX35_passes_171 : decode cX35_passes 171 = .ok (.iand, 1) := by decide +kernel
theorem dX35_passes_172 : decode cX35_passes 172 = .ok (.istore_n 2, 1) := by decide +kernel
theorem dX35_passes_173 : decode cX35_passes 173 = .ok (.iinc 3 1, 3) := by decide +kernel
theorem dX35_passes_176 : decode cX35_passes 176 = .ok (.goto (-172), 3) := by decide +kernel
theorem dX35_passes_179 : decode cX35_passes 179 = .ok (.iload_n 2, 1) := by decide +kernel
theorem dX35_passes_180 : decode cX35_passes 180 = .ok (.ireturn, 1) := by decide +kernel
abbrev cX35_valueOf : ByteArray := prog_58_method_21_code
def yX35_valueOf : MethodName := ⟨RX35, "valueOf", "(I)I"⟩
theorem dX35_valueOf_0 : decode cX35_valueOf 0 = .ok (.iload_n 1, 1) := by decide +kernel
theorem dX35_valueOf_1 : decode cX35_valueOf 1 = .ok (.ifCond .lt 7, 3) := by decide +kernel
theorem dX35_valueOf_4 : decode cX35_valueOf 4 = .ok (.iload_n 1, 1) := by decide +kernel
theorem dX35_valueOf_5 : decode cX35_valueOf 5 = .ok (.goto 11, 3) := by decide +kernel
theorem dX35_valueOf_8 : decode cX35_valueOf 8 = .ok (.aload_n 0, 1) := by decide +kernel
theorem dX35_valueOf_9 : decode cX35_valueOf 9 = .ok (.getfield 49, 3) := by decide +kernel
theorem dX35_valueOf_12 : decode cX35_valueOf 12 = .ok (.iconst (-1), 1) := by decide +kernel
theorem dX35_valueOf_13 : decode cX35_valueOf 13 = .ok (.iload_n 1, 1) := by decide +kernel
theorem dX35_valueOf_14 : decode cX35_valueOf 14 = .ok (.isub, 1) := by decide +kernel
theorem dX35_valueOf_15 : decode cX35_valueOf 15 = .ok (.iaload, 1) := by decide +kernel
theorem dX35_valueOf_16 : decode cX35_valueOf 16 = .ok (.ireturn, 1) := by decide +kernel
abbrev cX35_headOf : ByteArray := prog_58_method_25_code
def yX35_headOf : MethodName := ⟨RX35, "headOf", "(LKnowHouse$RuleEngine$Rule;)I"⟩
theorem dX35_headOf_0 : decode cX35_headOf 0 = .ok (.aload_n 1, 1) := by decide +kernel
theorem dX35_headOf_1 : decode cX35_headOf 1 = .ok (.getfield 157, 3) := by decide +kernel
theorem dX35_headOf_4 : decode cX35_headOf 4 = .ok (.invokevirtual 161, 3) := by decide +kernel
theorem dX35_headOf_7 : decode cX35_headOf 7 = .ok (.aload_n 0, 1) := by decide +kernel
theorem dX35_headOf_8 : decode cX35_headOf 8 = .ok (.aload_n 1, 1) := by decide +kernel
theorem dX35_headOf_9 : decode cX35_headOf 9 = .ok (.getfield 157, 3) := by decide +kernel
theorem dX35_headOf_12 : decode cX35_headOf 12 = .ok (.invokevirtual 188, 3) := by decide +kernel
theorem dX35_headOf_15 : decode cX35_headOf 15 = .ok (.invokevirtual 191, 3) := by decide +kernel
theorem dX35_headOf_18 : decode cX35_headOf 18 = .ok (.aload_n 0, 1) := by decide +kernel
theorem dX35_headOf_19 : decode cX35_headOf 19 = .ok (.aload_n 1, 1) := by decide +kernel
theorem dX35_headOf_20 : decode cX35_headOf 20 = .ok (.getfield 157, 3) := by decide +kernel
theorem dX35_headOf_23 : decode cX35_headOf 23 = .ok (.invokevirtual 208, 3) := by decide +kernel
theorem dX35_headOf_26 : decode cX35_headOf 26 = .ok (.invokevirtual 191, 3) := by decide +kernel
theorem dX35_headOf_29 : decode cX35_headOf 29 = .ok (.invokestatic 92, 3) := by decide +kernel
theorem dX35_headOf_32 : decode cX35_headOf 32 = .ok (.ireturn, 1) := by decide +kernel
abbrev cX35_come : ByteArray := prog_58_method_26_code
def yX35_come : MethodName := ⟨RX35, "come", "(I)V"⟩
theorem dX35_come_0 : decode cX35_come 0 = .ok (.aload_n 0, 1) := by decide +kernel
theorem dX35_come_1 : decode cX35_come 1 = .ok (.getfield 34, 3) := by decide +kernel
theorem dX35_come_4 : decode cX35_come 4 = .ok (.iload_n 1, 1) := by decide +kernel
theorem dX35_come_5 : decode cX35_come 5 = .ok (.invokevirtual 100, 3) := by decide +kernel
theorem dX35_come_8 : decode cX35_come 8 = .ok (.ifCond .ne 11, 3) := by decide +kernel
theorem dX35_come_11 : decode cX35_come 11 = .ok (.aload_n 0, 1) := by decide +kernel
theorem dX35_come_12 : decode cX35_come 12 = .ok (.getfield 46, 3) := by decide +kernel
theorem dX35_come_15 : decode cX35_come 15 = .ok (.iload_n 1, 1) := by decide +kernel
theorem dX35_come_16 : decode cX35_come 16 = .ok (.invokevirtual 211, 3) := by decide +kernel
theorem dX35_come_19 : decode cX35_come 19 = .ok (.return_, 1) := by decide +kernel
abbrev cX35_bind : ByteArray := prog_58_method_23_code
def yX35_bind : MethodName := ⟨RX35, "bind", "(II)Z"⟩
theorem dX35_bind_0 : decode cX35_bind 0 = .ok (.iload_n 1, 1) := by decide +kernel
theorem dX35_bind_1 : decode cX35_bind 1 = .ok (.ifCond .ge 15, 3) := by decide +kernel
theorem dX35_bind_4 : decode cX35_bind 4 = .ok (.aload_n 0, 1) := by decide +kernel
theorem dX35_bind_5 : decode cX35_bind 5 = .ok (.getfield 49, 3) := by decide +kernel
theorem dX35_bind_8 : decode cX35_bind 8 = .ok (.iconst (-1), 1) := by decide +kernel
theorem dX35_bind_9 : decode cX35_bind 9 = .ok (.iload_n 1, 1) := by decide +kernel
theorem dX35_bind_10 : decode cX35_bind 10 = .ok (.isub, 1) := by decide +kernel
theorem dX35_bind_11 : decode cX35_bind 11 = .ok (.iaload, 1) := by decide +kernel
theorem dX35_bind_12 : decode cX35_bind 12 = .ok (.iconst (-1), 1) := by decide +kernel
theorem dX35_bind_13 : decode cX35_bind 13 = .ok (.if_icmp .eq 5, 3) := by decide +kernel
theorem dX35_bind_16 : decode cX35_bind 16 = .ok (.iconst 0, 1) := by decide +kernel
theorem dX35_bind_17 : decode cX35_bind 17 = .ok (.ireturn, 1) := by decide +kernel
theorem dX35_bind_18 : decode cX35_bind 18 = .ok (.aload_n 0, 1) := by decide +kernel
theorem dX35_bind_19 : decode cX35_bind 19 = .ok (.getfield 49, 3) := by decide +kernel
theorem dX35_bind_22 : decode cX35_bind 22 = .ok (.iconst (-1), 1) := by decide +kernel
theorem dX35_bind_23 : decode cX35_bind 23 = .ok (.iload_n 1, 1) := by decide +kernel
theorem dX35_bind_24 : decode cX35_bind 24 = .ok (.isub, 1) := by decide +kernel
theorem dX35_bind_25 : decode cX35_bind 25 = .ok (.iload_n 2, 1) := by decide +kernel
theorem dX35_bind_26 : decode cX35_bind 26 = .ok (.iastore, 1) := by decide +kernel
theorem dX35_bind_27 : decode cX35_bind 27 = .ok (.iconst 1, 1) := by decide +kernel
theorem dX35_bind_28 : decode cX35_bind 28 = .ok (.ireturn, 1) := by decide +kernel
abbrev cX35_onlySaid : ByteArray := prog_58_method_31_code
def yX35_onlySaid : MethodName := ⟨RX35, "onlySaid", "()V"⟩
theorem dX35_onlySaid_0 : decode cX35_onlySaid 0 = .ok (.aload_n 0, 1) := by decide +kernel
theorem dX35_onlySaid_1 : decode cX35_onlySaid 1 = .ok (.getfield 34, 3) := by decide +kernel
theorem dX35_onlySaid_4 : decode cX35_onlySaid 4 = .ok (.invokevirtual 224, 3) := by decide +kernel
theorem dX35_onlySaid_7 : decode cX35_onlySaid 7 = .ok (.aload_n 0, 1) := by decide +kernel
theorem dX35_onlySaid_8 : decode cX35_onlySaid 8 = .ok (.getfield 34, 3) := by decide +kernel
theorem dX35_onlySaid_11 : decode cX35_onlySaid 11 = .ok (.aload_n 0, 1) := by decide +kernel
theorem dX35_onlySaid_12 : decode cX35_onlySaid 12 = .ok (.getfield 10, 3) := by decide +kernel
theorem dX35_onlySaid_15 : decode cX35_onlySaid 15 = .ok (.invokevirtual 227, 3) := by decide +kernel
theorem dX35_onlySaid_18 : decode cX35_onlySaid 18 = .ok (.aload_n 0, 1) := by decide +kernel
theorem dX35_onlySaid_19 : decode cX35_onlySaid 19 = .ok (.iconst 0, 1) := by decide +kernel
theorem dX35_onlySaid_20 : decode cX35_onlySaid 20 = .ok (.putfield 231, 3) := by decide +kernel
theorem dX35_onlySaid_23 : decode cX35_onlySaid 23 = .ok (.iconst 0, 1) := by decide +kernel
theorem dX35_onlySaid_24 : decode cX35_onlySaid 24 = .ok (.istore_n 1, 1) := by decide +kernel
theorem dX35_onlySaid_25 : decode cX35_onlySaid 25 = .ok (.iload_n 1, 1) := by decide +kernel
theorem dX35_onlySaid_26 : decode cX35_onlySaid 26 = .ok (.sipush 16384, 3) := by decide +kernel
theorem dX35_onlySaid_29 : decode cX35_onlySaid 29 = .ok (.if_icmp .ge 32, 3) := by decide +kernel
theorem dX35_onlySaid_32 : decode cX35_onlySaid 32 = .ok (.aload_n 0, 1) := by decide +kernel
theorem dX35_onlySaid_33 : decode cX35_onlySaid 33 = .ok (.getfield 37, 3) := by decide +kernel
theorem dX35_onlySaid_36 : decode cX35_onlySaid 36 = .ok (.iload_n 1, 1) := by decide +kernel
theorem dX35_onlySaid_37 : decode cX35_onlySaid 37 = .ok (.aload_n 0, 1) := by decide +kernel
theorem dX35_onlySaid_38 : decode cX35_onlySaid 38 = .ok (.getfield 10, 3) := by decide +kernel
theorem dX35_onlySaid_41 : decode cX35_onlySaid 41 = .ok (.iload_n 1, 1) := by decide +kernel
theorem dX35_onlySaid_42 : decode cX35_onlySaid 42 = .ok (.invokevirtual 100, 3) := by decide +kernel
theorem dX35_onlySaid_45 : decode cX35_onlySaid 45 = .ok (.ifCond .eq 7, 3) := by decide +kernel
theorem dX35_onlySaid_48 : decode cX35_onlySaid 48 = .ok (.iconst 0, 1) := by decide +kernel
theorem dX35_onlySaid_49 : decode cX35_onlySaid 49 = .ok (.goto 5, 3) := by decide +kernel
theorem dX35_onlySaid_52 : decode cX35_onlySaid 52 = .ok (.bipush (-2), 2) := by decide +kernel
theorem dX35_onlySaid_54 : decode cX35_onlySaid 54 = .ok (.iastore, 1) := by decide +kernel
theorem dX35_onlySaid_55 : decode cX35_onlySaid 55 = .ok (.iinc 1 1, 3) := by decide +kernel
theorem dX35_onlySaid_58 : decode cX35_onlySaid 58 = .ok (.goto (-33), 3) := by decide +kernel
theorem dX35_onlySaid_61 : decode cX35_onlySaid 61 = .ok (.return_, 1) := by decide +kernel
abbrev cX35_count : ByteArray := prog_58_method_33_code
def yX35_count : MethodName := ⟨RX35, "count", "(LKnowHouse$RuleEngine$Rule;)V"⟩
theorem dX35_count_0 : decode cX35_count 0 = .ok (.aload_n 1, 1) := by decide +kernel
theorem dX35_count_1 : decode cX35_count 1 = .ok (.getfield 140, 3) := by decide +kernel
theorem dX35_count_4 : decode cX35_count 4 = .ok (.iconst (-1), 1) := by decide +kernel
theorem dX35_count_5 : decode cX35_count 5 = .ok (.if_icmp .eq 59, 3) := by decide +kernel
theorem dX35_count_8 : decode cX35_count 8 = .ok (.aload_n 0, 1) := by decide +kernel
theorem dX35_count_9 : decode cX35_count 9 = .ok (.aload_n 1, 1) := by decide +kernel
theorem dX35_count_10 : decode cX35_count 10 = .ok (.invokevirtual 217, 3) := by decide +kernel
theorem dX35_count_13 : decode cX35_count 13 = .ok (.iconst 0, 1) := by decide +kernel
theorem dX35_count_14 : decode cX35_count 14 = .ok (.istore_n 2, 1) := by decide +kernel
theorem dX35_count_15 : decode cX35_count 15 = .ok (.iload_n 2, 1) := by decide +kernel
theorem dX35_count_16 : decode cX35_count 16 = .ok (.bipush 32, 2) := by decide +kernel
theorem dX35_count_18 : decode cX35_count 18 = .ok (.if_icmp .ge 45, 3) := by decide +kernel
theorem dX35_count_21 : decode cX35_count 21 = .ok (.aload_n 0, 1) := by decide +kernel
theorem dX35_count_22 : decode cX35_count 22 = .ok (.getfield 71, 3) := by decide +kernel
theorem dX35_count_25 : decode cX35_count 25 = .ok (.iload_n 2, 1) := by decide +kernel
theorem dX35_count_26 : decode cX35_count 26 = .ok (.iaload, 1) := by decide +kernel
theorem dX35_count_27 : decode cX35_count 27 = .ok (.iconst (-1), 1) := by decide +kernel
theorem dX35_count_28 : decode cX35_count 28 = .ok (.if_icmp .eq 29, 3) := by decide +kernel
theorem dX35_count_31 : decode cX35_count 31 = .ok (.aload_n 0, 1) := by decide +kernel
theorem dX35_count_32 : decode cX35_count 32 = .ok (.getfield 40, 3) := by decide +kernel
theorem dX35_count_35 : decode cX35_count 35 = .ok (.aload_n 1, 1) := by decide +kernel
theorem dX35_count_36 : decode cX35_count 36 = .ok (.getfield 157, 3) := by decide +kernel
theorem dX35_count_39 : decode cX35_count 39 = .ok (.invokevirtual 161, 3) := by decide +kernel
theorem dX35_count_42 : decode cX35_count 42 = .ok (.iload_n 2, 1) := by decide +kernel
theorem dX35_count_43 : decode cX35_count 43 = .ok (.aload_n 0, 1) := by decide +kernel
theorem dX35_count_44 : decode cX35_count 44 = .ok (.getfield 71, 3) := by decide +kernel
theorem dX35_count_47 : decode cX35_count 47 = .ok (.iload_n 2, 1) := by decide +kernel
theorem dX35_count_48 : decode cX35_count 48 = .ok (.iaload, 1) := by decide +kernel
theorem dX35_count_49 : decode cX35_count 49 = .ok (.invokestatic 92, 3) := by decide +kernel
theorem dX35_count_52 : decode cX35_count 52 = .ok (.dup2, 1) := by decide +kernel
theorem dX35_count_53 : decode cX35_count 53 = .ok (.iaload, 1) := by decide +kernel
theorem dX35_count_54 : decode cX35_count 54 = .ok (.iconst 1, 1) := by decide +kernel
theorem dX35_count_55 : decode cX35_count 55 = .ok (.iadd, 1) := by decide +kernel
theorem dX35_count_56 : decode cX35_count 56 = .ok (.iastore, 1) := by decide +kernel
theorem dX35_count_57 : decode cX35_count 57 = .ok (.iinc 2 1, 3) := by decide +kernel
theorem dX35_count_60 : decode cX35_count 60 = .ok (.goto (-45), 3) := by decide +kernel
theorem dX35_count_63 : decode cX35_count 63 = .ok (.return_, 1) := by decide +kernel
theorem dX35_count_64 : decode cX35_count 64 = .ok (.aload_n 0, 1) := by decide +kernel
theorem dX35_count_65 : decode cX35_count 65 = .ok (.invokevirtual 214, 3) := by decide +kernel
theorem dX35_count_68 : decode cX35_count 68 = .ok (.aload_n 0, 1) := by decide +kernel
theorem dX35_count_69 : decode cX35_count 69 = .ok (.aload_n 1, 1) := by decide +kernel
theorem dX35_count_70 : decode cX35_count 70 = .ok (.iconst 0, 1) := by decide +kernel
theorem dX35_count_71 : decode cX35_count 71 = .ok (.iconst (-1), 1) := by decide +kernel
theorem dX35_count_72 : decode cX35_count 72 = .ok (.aload_n 0, 1) := by decide +kernel
theorem dX35_count_73 : decode cX35_count 73 = .ok (.getfield 62, 3) := by decide +kernel
theorem dX35_count_76 : decode cX35_count 76 = .ok (.invokestatic 184, 3) := by decide +kernel
theorem dX35_count_79 : decode cX35_count 79 = .ok (.return_, 1) := by decide +kernel
abbrev cX35_rule : ByteArray := prog_58_method_11_code
def yX35_rule : MethodName := ⟨RX35, "rule", "(III)I"⟩
theorem dX35_rule_0 : decode cX35_rule 0 = .ok (.iload_n 1, 1) := by decide +kernel
theorem dX35_rule_1 : decode cX35_rule 1 = .ok (.invokestatic 77, 3) := by decide +kernel
theorem dX35_rule_4 : decode cX35_rule 4 = .ok (.ifCond .eq 17, 3) := by decide +kernel
theorem dX35_rule_7 : decode cX35_rule 7 = .ok (.iload_n 2, 1) := by decide +kernel
theorem dX35_rule_8 : decode cX35_rule 8 = .ok (.invokestatic 111, 3) := by decide +kernel
theorem dX35_rule_11 : decode cX35_rule 11 = .ok (.ifCond .eq 10, 3) := by decide +kernel
theorem dX35_rule_14 : decode cX35_rule 14 = .ok (.iload_n 3, 1) := by decide +kernel
theorem dX35_rule_15 : decode cX35_rule 15 = .ok (.invokestatic 111, 3) := by decide +kernel
theorem dX35_rule_18 : decode cX35_rule 18 = .ok (.ifCond .ne 5, 3) := by decide +kernel
theorem dX35_rule_21 : decode cX35_rule 21 = .ok (.iconst (-1), 1) := by decide +kernel
theorem dX35_rule_22 : decode cX35_rule 22 = .ok (.ireturn, 1) := by decide +kernel
theorem dX35_rule_23 : decode cX35_rule 23 = .ok (.aload_n 0, 1) := by decide +kernel
theorem dX35_rule_24 : decode cX35_rule 24 = .ok (.getfield 19, 3) := by decide +kernel
theorem dX35_rule_27 : decode cX35_rule 27 = .ok (.invokevirtual 84, 3) := by decide +kernel
theorem dX35_rule_30 : decode cX35_rule 30 = .ok (.bipush 16, 2) := by decide +kernel
theorem dX35_rule_32 : decode cX35_rule 32 = .ok (.if_icmp .ne 6, 3) := by decide +kernel
theorem dX35_rule_35 : decode cX35_rule 35 = .ok (.bipush (-3), 2) := by decide +kernel
theorem dX35_rule_37 : decode cX35_rule 37 = .ok (.ireturn, 1) := by decide +kernel
theorem dX35_rule_38 : decode cX35_rule 38 = .ok (.aload_n 0, 1) := by decide +kernel
theorem dX35_rule_39 : decode cX35_rule 39 = .ok (.getfield 19, 3) := by decide +kernel
theorem dX35_rule_42 : decode cX35_rule 42 = .ok (.new 114, 3) := by decide +kernel
theorem dX35_rule_45 : decode cX35_rule 45 = .ok (.dup, 1) := by decide +kernel
theorem dX35_rule_46 : decode cX35_rule 46 = .ok (.new 116, 3) := by decide +kernel
theorem dX35_rule_49 : decode cX35_rule 49 = .ok (.dup, 1) := by decide +kernel
theorem dX35_rule_50 : decode cX35_rule 50 = .ok (.iconst 0, 1) := by decide +kernel
theorem dX35_rule_51 : decode cX35_rule 51 = .ok (.iload_n 1, 1) := by decide +kernel
theorem dX35_rule_52 : decode cX35_rule 52 = .ok (.iload_n 2, 1) := by decide +kernel
theorem dX35_rule_53 : decode cX35_rule 53 = .ok (.iload_n 3, 1) := by decide +kernel
theorem dX35_rule_54 : decode cX35_rule 54 = .ok (.invokespecial 118, 3) := by decide +kernel
theorem dX35_rule_57 : decode cX35_rule 57 = .ok (.invokespecial 121, 3) := by decide +kernel
theorem dX35_rule_60 : decode cX35_rule 60 = .ok (.invokevirtual 124, 3) := by decide +kernel
theorem dX35_rule_63 : decode cX35_rule 63 = .ok (.pop, 1) := by decide +kernel
theorem dX35_rule_64 : decode cX35_rule 64 = .ok (.aload_n 0, 1) := by decide +kernel
theorem dX35_rule_65 : decode cX35_rule 65 = .ok (.iconst 0, 1) := by decide +kernel
theorem dX35_rule_66 : decode cX35_rule 66 = .ok (.putfield 107, 3) := by decide +kernel
theorem dX35_rule_69 : decode cX35_rule 69 = .ok (.aload_n 0, 1) := by decide +kernel
theorem dX35_rule_70 : decode cX35_rule 70 = .ok (.getfield 19, 3) := by decide +kernel
theorem dX35_rule_73 : decode cX35_rule 73 = .ok (.invokevirtual 84, 3) := by decide +kernel
theorem dX35_rule_76 : decode cX35_rule 76 = .ok (.iconst 1, 1) := by decide +kernel
theorem dX35_rule_77 : decode cX35_rule 77 = .ok (.isub, 1) := by decide +kernel
theorem dX35_rule_78 : decode cX35_rule 78 = .ok (.ireturn, 1) := by decide +kernel
abbrev cX35_isItem : ByteArray := prog_58_method_4_code
def yX35_isItem : MethodName := ⟨RX35, "isItem", "(I)Z"⟩
theorem dX35_isItem_0 : decode cX35_isItem 0 = .ok (.iload_n 0, 1) := by decide +kernel
theorem dX35_isItem_1 : decode cX35_isItem 1 = .ok (.bipush 32, 2) := by decide +kernel
theorem dX35_isItem_3 : decode cX35_isItem 3 = .ok (.if_icmp .ge 13, 3) := by decide +kernel
theorem dX35_isItem_6 : decode cX35_isItem 6 = .ok (.iload_n 0, 1) := by decide +kernel
theorem dX35_isItem_7 : decode cX35_isItem 7 = .ok (.bipush (-6), 2) := by decide +kernel
theorem dX35_isItem_9 : decode cX35_isItem 9 = .ok (.if_icmp .lt 7, 3) := by decide +kernel
theorem dX35_isItem_12 : decode cX35_isItem 12 = .ok (.iconst 1, 1) := by decide +kernel
theorem dX35_isItem_13 : decode cX35_isItem 13 = .ok (.goto 4, 3) := by decide +kernel
theorem dX35_isItem_16 : decode cX35_isItem 16 = .ok (.iconst 0, 1) := by decide +kernel
theorem dX35_isItem_17 : decode cX35_isItem 17 = .ok (.ireturn, 1) := by decide +kernel
abbrev cX35_body : ByteArray := prog_58_method_13_code
def yX35_body : MethodName := ⟨RX35, "body", "(IIIIZ)I"⟩
theorem dX35_body_0 : decode cX35_body 0 = .ok (.aload_n 0, 1) := by decide +kernel
theorem dX35_body_1 : decode cX35_body 1 = .ok (.iload_n 1, 1) := by decide +kernel
theorem dX35_body_2 : decode cX35_body 2 = .ok (.invokevirtual 134, 3) := by decide +kernel
theorem dX35_body_5 : decode cX35_body 5 = .ok (.ifCond .eq 54, 3) := by decide +kernel
theorem dX35_body_8 : decode cX35_body 8 = .ok (.iload_n 2, 1) := by decide +kernel
theorem dX35_body_9 : decode cX35_body 9 = .ok (.invokestatic 77, 3) := by decide +kernel
theorem dX35_body_12 : decode cX35_body 12 = .ok (.ifCond .eq 47, 3) := by decide +kernel
theorem dX35_body_15 : decode cX35_body 15 = .ok (.iload_n 3, 1) := by decide +kernel
theorem dX35_body_16 : decode cX35_body 16 = .ok (.invokestatic 111, 3) := by decide +kernel
theorem dX35_body_19 : decode cX35_body 19 = .ok (.ifCond .eq 40, 3) := by decide +kernel
theorem dX35_body_22 : decode cX35_body 22 = .ok (.iload 4, 2) := by decide +kernel
theorem dX35_body_24 : decode cX35_body 24 = .ok (.invokestatic 111, 3) := by decide +kernel
theorem dX35_body_27 : decode cX35_body 27 = .ok (.ifCond .eq 32, 3) := by decide +kernel
theorem dX35_body_30 : decode cX35_body 30 = .ok (.aload_n 0, 1) := by decide +kernel
theorem dX35_body_31 : decode cX35_body 31 = .ok (.iload_n 1, 1) := by decide +kernel
theorem dX35_body_32 : decode cX35_body 32 = .ok (.new 116, 3) := by decide +kernel
theorem dX35_body_35 : decode cX35_body 35 = .ok (.dup, 1) := by decide +kernel
theorem dX35_body_36 : decode cX35_body 36 = .ok (.iload 5, 2) := by decide +kernel
theorem dX35_body_38 : decode cX35_body 38 = .ok (.ifCond .eq 7, 3) := by decide +kernel
theorem dX35_body_41 : decode cX35_body 41 = .ok (.iconst 1, 1) := by decide +kernel
theorem dX35_body_42 : decode cX35_body 42 = .ok (.goto 4, 3) := by decide +kernel
theorem dX35_body_45 : decode cX35_body 45 = .ok (.iconst 0, 1) := by decide +kernel
theorem dX35_body_46 : decode cX35_body 46 = .ok (.iload_n 2, 1) := by decide +kernel
theorem dX35_body_47 : decode cX35_body 47 = .ok (.iload_n 3, 1) := by decide +kernel
theorem dX35_body_48 : decode cX35_body 48 = .ok (.iload 4, 2) := by decide +kernel
theorem dX35_body_50 : decode cX35_body 50 = .ok (.invokespecial 118, 3) := by decide +kernel
theorem dX35_body_53 : decode cX35_body 53 = .ok (.invokevirtual 137, 3) := by decide +kernel
theorem dX35_body_56 : decode cX35_body 56 = .ok (.goto 4, 3) := by decide +kernel
theorem dX35_body_59 : decode cX35_body 59 = .ok (.iconst (-1), 1) := by decide +kernel
theorem dX35_body_60 : decode cX35_body 60 = .ok (.ireturn, 1) := by decide +kernel
abbrev cX35_isRule : ByteArray := prog_58_method_7_code
def yX35_isRule : MethodName := ⟨RX35, "isRule", "(I)Z"⟩
theorem dX35_isRule_0 : decode cX35_isRule 0 = .ok (.iload_n 1, 1) := by decide +kernel
theorem dX35_isRule_1 : decode cX35_isRule 1 = .ok (.ifCond .lt 18, 3) := by decide +kernel
theorem dX35_isRule_4 : decode cX35_isRule 4 = .ok (.iload_n 1, 1) := by decide +kernel
theorem dX35_isRule_5 : decode cX35_isRule 5 = .ok (.aload_n 0, 1) := by decide +kernel
theorem dX35_isRule_6 : decode cX35_isRule 6 = .ok (.getfield 19, 3) := by decide +kernel
theorem dX35_isRule_9 : decode cX35_isRule 9 = .ok (.invokevirtual 84, 3) := by decide +kernel
theorem dX35_isRule_12 : decode cX35_isRule 12 = .ok (.if_icmp .ge 7, 3) := by decide +kernel
theorem dX35_isRule_15 : decode cX35_isRule 15 = .ok (.iconst 1, 1) := by decide +kernel
theorem dX35_isRule_16 : decode cX35_isRule 16 = .ok (.goto 4, 3) := by decide +kernel
theorem dX35_isRule_19 : decode cX35_isRule 19 = .ok (.iconst 0, 1) := by decide +kernel
theorem dX35_isRule_20 : decode cX35_isRule 20 = .ok (.ireturn, 1) := by decide +kernel
abbrev cX35_add : ByteArray := prog_58_method_12_code
def yX35_add : MethodName := ⟨RX35, "add", "(ILKnowHouse$RuleEngine$Part;)I"⟩
theorem dX35_add_0 : decode cX35_add 0 = .ok (.aload_n 0, 1) := by decide +kernel
theorem dX35_add_1 : decode cX35_add 1 = .ok (.getfield 19, 3) := by decide +kernel
theorem dX35_add_4 : decode cX35_add 4 = .ok (.iload_n 1, 1) := by decide +kernel
theorem dX35_add_5 : decode cX35_add 5 = .ok (.invokevirtual 128, 3) := by decide +kernel
theorem dX35_add_8 : decode cX35_add 8 = .ok (.checkcast 114, 3) := by decide +kernel
theorem dX35_add_11 : decode cX35_add 11 = .ok (.astore_n 3, 1) := by decide +kernel
theorem dX35_add_12 : decode cX35_add 12 = .ok (.aload_n 3, 1) := by decide +kernel
theorem dX35_add_13 : decode cX35_add 13 = .ok (.getfield 131, 3) := by decide +kernel
theorem dX35_add_16 : decode cX35_add 16 = .ok (.invokevirtual 84, 3) := by decide +kernel
theorem dX35_add_19 : decode cX35_add 19 = .ok (.iconst 5, 1) := by decide +kernel
theorem dX35_add_20 : decode cX35_add 20 = .ok (.if_icmp .ne 6, 3) := by decide +kernel
theorem dX35_add_23 : decode cX35_add 23 = .ok (.bipush (-3), 2) := by decide +kernel
theorem dX35_add_25 : decode cX35_add 25 = .ok (.ireturn, 1) := by decide +kernel
theorem dX35_add_26 : decode cX35_add 26 = .ok (.aload_n 3, 1) := by decide +kernel
theorem dX35_add_27 : decode cX35_add 27 = .ok (.getfield 131, 3) := by decide +kernel
theorem dX35_add_30 : decode cX35_add 30 = .ok (.aload_n 2, 1) := by decide +kernel
theorem dX35_add_31 : decode cX35_add 31 = .ok (.invokevirtual 124, 3) := by decide +kernel
theorem dX35_add_34 : decode cX35_add 34 = .ok (.pop, 1) := by decide +kernel
theorem dX35_add_35 : decode cX35_add 35 = .ok (.aload_n 0, 1) := by decide +kernel
theorem dX35_add_36 : decode cX35_add 36 = .ok (.iconst 0, 1) := by decide +kernel
theorem dX35_add_37 : decode cX35_add 37 = .ok (.putfield 107, 3) := by decide +kernel
theorem dX35_add_40 : decode cX35_add 40 = .ok (.aload_n 3, 1) := by decide +kernel
theorem dX35_add_41 : decode cX35_add 41 = .ok (.getfield 131, 3) := by decide +kernel
theorem dX35_add_44 : decode cX35_add 44 = .ok (.invokevirtual 84, 3) := by decide +kernel
theorem dX35_add_47 : decode cX35_add 47 = .ok (.ireturn, 1) := by decide +kernel
abbrev cX35_filter : ByteArray := prog_58_method_14_code
def yX35_filter : MethodName := ⟨RX35, "filter", "(IIII)I"⟩
theorem dX35_filter_0 : decode cX35_filter 0 = .ok (.aload_n 0, 1) := by decide +kernel
theorem dX35_filter_1 : decode cX35_filter 1 = .ok (.iload_n 1, 1) := by decide +kernel
theorem dX35_filter_2 : decode cX35_filter 2 = .ok (.invokevirtual 134, 3) := by decide +kernel
theorem dX35_filter_5 : decode cX35_filter 5 = .ok (.ifCond .eq 49, 3) := by decide +kernel
theorem dX35_filter_8 : decode cX35_filter 8 = .ok (.iload_n 2, 1) := by decide +kernel
theorem dX35_filter_9 : decode cX35_filter 9 = .ok (.ifCond .lt 45, 3) := by decide +kernel
theorem dX35_filter_12 : decode cX35_filter 12 = .ok (.iload_n 2, 1) := by decide +kernel
theorem dX35_filter_13 : decode cX35_filter 13 = .ok (.iconst 3, 1) := by decide +kernel
theorem dX35_filter_14 : decode cX35_filter 14 = .ok (.if_icmp .ge 40, 3) := by decide +kernel
theorem dX35_filter_17 : decode cX35_filter 17 = .ok (.iload_n 3, 1) := by decide +kernel
theorem dX35_filter_18 : decode cX35_filter 18 = .ok (.invokestatic 111, 3) := by decide +kernel
theorem dX35_filter_21 : decode cX35_filter 21 = .ok (.ifCond .eq 33, 3) := by decide +kernel
theorem dX35_filter_24 : decode cX35_filter 24 = .ok (.iload 4, 2) := by decide +kernel
theorem dX35_filter_26 : decode cX35_filter 26 = .ok (.invokestatic 111, 3) := by decide +kernel
theorem dX35_filter_29 : decode cX35_filter 29 = .ok (.ifCond .eq 25, 3) := by decide +kernel
theorem dX35_filter_32 : decode cX35_filter 32 = .ok (.aload_n 0, 1) := by decide +kernel
theorem dX35_filter_33 : decode cX35_filter 33 = .ok (.iload_n 1, 1) := by decide +kernel
theorem dX35_filter_34 : decode cX35_filter 34 = .ok (.new 116, 3) := by decide +kernel
theorem dX35_filter_37 : decode cX35_filter 37 = .ok (.dup, 1) := by decide +kernel
theorem dX35_filter_38 : decode cX35_filter 38 = .ok (.iconst 2, 1) := by decide +kernel
theorem dX35_filter_39 : decode cX35_filter 39 = .ok (.iload_n 2, 1) := by decide +kernel
theorem dX35_filter_40 : decode cX35_filter 40 = .ok (.iadd, 1) := by decide +kernel
theorem dX35_filter_41 : decode cX35_filter 41 = .ok (.iconst 0, 1) := by decide +kernel
theorem dX35_filter_42 : decode cX35_filter 42 = .ok (.iload_n 3, 1) := by decide +kernel
theorem dX35_filter_43 : decode cX35_filter 43 = .ok (.iload 4, 2) := by decide +kernel
theorem dX35_filter_45 : decode cX35_filter 45 = .ok (.invokespecial 118, 3) := by decide +kernel
theorem dX35_filter_48 : decode cX35_filter 48 = .ok (.invokevirtual 137, 3) := by decide +kernel
theorem dX35_filter_51 : decode cX35_filter 51 = .ok (.goto 4, 3) := by decide +kernel
theorem dX35_filter_54 : decode cX35_filter 54 = .ok (.iconst (-1), 1) := by decide +kernel
theorem dX35_filter_55 : decode cX35_filter 55 = .ok (.ireturn, 1) := by decide +kernel
abbrev cX35_aggregate : ByteArray := prog_58_method_15_code
def yX35_aggregate : MethodName := ⟨RX35, "aggregate", "(III)I"⟩
theorem dX35_aggregate_0 : decode cX35_aggregate 0 = .ok (.aload_n 0, 1) := by decide +kernel
theorem dX35_aggregate_1 : decode cX35_aggregate 1 = .ok (.iload_n 1, 1) := by decide +kernel
theorem dX35_aggregate_2 : decode cX35_aggregate 2 = .ok (.invokevirtual 134, 3) := by decide +kernel
theorem dX35_aggregate_5 : decode cX35_aggregate 5 = .ok (.ifCond .eq 29, 3) := by decide +kernel
theorem dX35_aggregate_8 : decode cX35_aggregate 8 = .ok (.iload_n 2, 1) := by decide +kernel
theorem dX35_aggregate_9 : decode cX35_aggregate 9 = .ok (.iconst (-1), 1) := by decide +kernel
theorem dX35_aggregate_10 : decode cX35_aggregate 10 = .ok (.if_icmp .lt 24, 3) := by decide +kernel
theorem dX35_aggregate_13 : decode cX35_aggregate 13 = .ok (.iload_n 2, 1) := by decide +kernel
theorem dX35_aggregate_14 : decode cX35_aggregate 14 = .ok (.iconst 3, 1) := by decide +kernel
theorem dX35_aggregate_15 : decode cX35_aggregate 15 = .ok (.if_icmp .gt 19, 3) := by decide +kernel
theorem dX35_aggregate_18 : decode cX35_aggregate 18 = .ok (.iload_n 2, 1) := by decide +kernel
theorem dX35_aggregate_19 : decode cX35_aggregate 19 = .ok (.iconst (-1), 1) := by decide +kernel
theorem dX35_aggregate_20 : decode cX35_aggregate 20 = .ok (.if_icmp .eq 16, 3) := by decide +kernel
theorem dX35_aggregate_23 : decode cX35_aggregate 23 = .ok (.iload_n 3, 1) := by decide +kernel
theorem dX35_aggregate_24 : decode cX35_aggregate 24 = .ok (.ifCond .ge 10, 3) := by decide +kernel
theorem dX35_aggregate_27 : decode cX35_aggregate 27 = .ok (.iload_n 3, 1) := by decide +kernel
theorem dX35_aggregate_28 : decode cX35_aggregate 28 = .ok (.invokestatic 111, 3) := by decide +kernel
theorem dX35_aggregate_31 : decode cX35_aggregate 31 = .ok (.ifCond .ne 5, 3) := by decide +kernel
theorem dX35_aggregate_34 : decode cX35_aggregate 34 = .ok (.iconst (-1), 1) := by decide +kernel
theorem dX35_aggregate_35 : decode cX35_aggregate 35 = .ok (.ireturn, 1) := by decide +kernel
theorem dX35_aggregate_36 : decode cX35_aggregate 36 = .ok (.aload_n 0, 1) := by decide +kernel
theorem dX35_aggregate_37 : decode cX35_aggregate 37 = .ok (.getfield 19, 3) := by decide +kernel
theorem dX35_aggregate_40 : decode cX35_aggregate 40 = .ok (.iload_n 1, 1) := by decide +kernel
theorem dX35_aggregate_41 : decode cX35_aggregate 41 = .ok (.invokevirtual 128, 3) := by decide +kernel
theorem dX35_aggregate_44 : decode cX35_aggregate 44 = .ok (.checkcast 114, 3) := by decide +kernel
theorem dX35_aggregate_47 : decode cX35_aggregate 47 = .ok (.astore 4, 2) := by decide +kernel
theorem dX35_aggregate_49 : decode cX35_aggregate 49 = .ok (.aload 4, 2) := by decide +kernel
theorem dX35_aggregate_51 : decode cX35_aggregate 51 = .ok (.iload_n 2, 1) := by decide +kernel
theorem dX35_aggregate_52 : decode cX35_aggregate 52 = .ok (.putfield 140, 3) := by decide +kernel
theorem dX35_aggregate_55 : decode cX35_aggregate 55 = .ok (.aload 4, 2) := by decide +kernel
theorem dX35_aggregate_57 : decode cX35_aggregate 57 = .ok (.iload_n 3, 1) := by decide +kernel
theorem dX35_aggregate_58 : decode cX35_aggregate 58 = .ok (.putfield 144, 3) := by decide +kernel
theorem dX35_aggregate_61 : decode cX35_aggregate 61 = .ok (.aload_n 0, 1) := by decide +kernel
theorem dX35_aggregate_62 : decode cX35_aggregate 62 = .ok (.iconst 0, 1) := by decide +kernel
theorem dX35_aggregate_63 : decode cX35_aggregate 63 = .ok (.putfield 107, 3) := by decide +kernel
theorem dX35_aggregate_66 : decode cX35_aggregate 66 = .ok (.iconst 1, 1) := by decide +kernel
theorem dX35_aggregate_67 : decode cX35_aggregate 67 = .ok (.ireturn, 1) := by decide +kernel
abbrev cX35_drop : ByteArray := prog_58_method_16_code
def yX35_drop : MethodName := ⟨RX35, "drop", "(I)I"⟩
theorem dX35_drop_0 : decode cX35_drop 0 = .ok (.aload_n 0, 1) := by decide +kernel
theorem dX35_drop_1 : decode cX35_drop 1 = .ok (.iload_n 1, 1) := by decide +kernel
theorem dX35_drop_2 : decode cX35_drop 2 = .ok (.invokevirtual 134, 3) := by decide +kernel
theorem dX35_drop_5 : decode cX35_drop 5 = .ok (.ifCond .ne 5, 3) := by decide +kernel
theorem dX35_drop_8 : decode cX35_drop 8 = .ok (.iconst (-1), 1) := by decide +kernel
theorem dX35_drop_9 : decode cX35_drop 9 = .ok (.ireturn, 1) := by decide +kernel
theorem dX35_drop_10 : decode cX35_drop 10 = .ok (.aload_n 0, 1) := by decide +kernel
theorem dX35_drop_11 : decode cX35_drop 11 = .ok (.getfield 19, 3) := by decide +kernel
theorem dX35_drop_14 : decode cX35_drop 14 = .ok (.iload_n 1, 1) := by decide +kernel
theorem dX35_drop_15 : decode cX35_drop 15 = .ok (.invokevirtual 147, 3) := by decide +kernel
theorem dX35_drop_18 : decode cX35_drop 18 = .ok (.pop, 1) := by decide +kernel
theorem dX35_drop_19 : decode cX35_drop 19 = .ok (.aload_n 0, 1) := by decide +kernel
theorem dX35_drop_20 : decode cX35_drop 20 = .ok (.iconst 0, 1) := by decide +kernel
theorem dX35_drop_21 : decode cX35_drop 21 = .ok (.putfield 107, 3) := by decide +kernel
theorem dX35_drop_24 : decode cX35_drop 24 = .ok (.aload_n 0, 1) := by decide +kernel
theorem dX35_drop_25 : decode cX35_drop 25 = .ok (.getfield 19, 3) := by decide +kernel
theorem dX35_drop_28 : decode cX35_drop 28 = .ok (.invokevirtual 84, 3) := by decide +kernel
theorem dX35_drop_31 : decode cX35_drop 31 = .ok (.ireturn, 1) := by decide +kernel
abbrev cX35_safe : ByteArray := prog_58_method_17_code
def yX35_safe : MethodName := ⟨RX35, "safe", "(I)I"⟩
theorem dX35_safe_0 : decode cX35_safe 0 = .ok (.aload_n 0, 1) := by decide +kernel
theorem dX35_safe_1 : decode cX35_safe 1 = .ok (.iload_n 1, 1) := by decide +kernel
theorem dX35_safe_2 : decode cX35_safe 2 = .ok (.invokevirtual 134, 3) := by decide +kernel
theorem dX35_safe_5 : decode cX35_safe 5 = .ok (.ifCond .eq 28, 3) := by decide +kernel
theorem dX35_safe_8 : decode cX35_safe 8 = .ok (.aload_n 0, 1) := by decide +kernel
theorem dX35_safe_9 : decode cX35_safe 9 = .ok (.getfield 19, 3) := by decide +kernel
theorem dX35_safe_12 : decode cX35_safe 12 = .ok (.iload_n 1, 1) := by decide +kernel
theorem dX35_safe_13 : decode cX35_safe 13 = .ok (.invokevirtual 128, 3) := by decide +kernel
theorem dX35_safe_16 : decode cX35_safe 16 = .ok (.checkcast 114, 3) := by decide +kernel
theorem dX35_safe_19 : decode cX35_safe 19 = .ok (.invokevirtual 150, 3) := by decide +kernel
theorem dX35_safe_22 : decode cX35_safe 22 = .ok (.ifCond .eq 7, 3) := by decide +kernel
theorem dX35_safe_25 : decode cX35_safe 25 = .ok (.iconst 1, 1) := by decide +kernel
theorem dX35_safe_26 : decode cX35_safe 26 = .ok (.goto 8, 3) := by decide +kernel
theorem dX35_safe_29 : decode cX35_safe 29 = .ok (.iconst 0, 1) := by decide +kernel
theorem dX35_safe_30 : decode cX35_safe 30 = .ok (.goto 4, 3) := by decide +kernel
theorem dX35_safe_33 : decode cX35_safe 33 = .ok (.iconst (-1), 1) := by decide +kernel
theorem dX35_safe_34 : decode cX35_safe 34 = .ok (.ireturn, 1) := by decide +kernel
abbrev cX35_run : ByteArray := prog_58_method_34_code
def yX35_run : MethodName := ⟨RX35, "run", "()I"⟩
theorem dX35_run_0 : decode cX35_run 0 = .ok (.aload_n 0, 1) := by decide +kernel
theorem dX35_run_1 : decode cX35_run 1 = .ok (.invokevirtual 271, 3) := by decide +kernel
theorem dX35_run_4 : decode cX35_run 4 = .ok (.aload_n 0, 1) := by decide +kernel
theorem dX35_run_5 : decode cX35_run 5 = .ok (.getfield 237, 3) := by decide +kernel
theorem dX35_run_8 : decode cX35_run 8 = .ok (.ifCond .eq 6, 3) := by decide +kernel
theorem dX35_run_11 : decode cX35_run 11 = .ok (.bipush (-4), 2) := by decide +kernel
theorem dX35_run_13 : decode cX35_run 13 = .ok (.ireturn, 1) := by decide +kernel
theorem dX35_run_14 : decode cX35_run 14 = .ok (.aload_n 0, 1) := by decide +kernel
theorem dX35_run_15 : decode cX35_run 15 = .ok (.getfield 167, 3) := by decide +kernel
theorem dX35_run_18 : decode cX35_run 18 = .ok (.iconst (-1), 1) := by decide +kernel
theorem dX35_run_19 : decode cX35_run 19 = .ok (.if_icmp .ne 10, 3) := by decide +kernel
theorem dX35_run_22 : decode cX35_run 22 = .ok (.aload_n 0, 1) := by decide +kernel
theorem dX35_run_23 : decode cX35_run 23 = .ok (.getfield 231, 3) := by decide +kernel
theorem dX35_run_26 : decode cX35_run 26 = .ok (.goto 10, 3) := by decide +kernel
theorem dX35_run_29 : decode cX35_run 29 = .ok (.bipush (-10), 2) := by decide +kernel
theorem dX35_run_31 : decode cX35_run 31 = .ok (.aload_n 0, 1) := by decide +kernel
theorem dX35_run_32 : decode cX35_run 32 = .ok (.getfield 167, 3) := by decide +kernel
theorem dX35_run_35 : decode cX35_run 35 = .ok (.isub, 1) := by decide +kernel
theorem dX35_run_36 : decode cX35_run 36 = .ok (.ireturn, 1) := by decide +kernel
abbrev cX35_stratum : ByteArray := prog_58_method_35_code
def yX35_stratum : MethodName := ⟨RX35, "stratum", "(I)I"⟩
theorem dX35_stratum_0 : decode cX35_stratum 0 = .ok (.iload_n 1, 1) := by decide +kernel
theorem dX35_stratum_1 : decode cX35_stratum 1 = .ok (.invokestatic 77, 3) := by decide +kernel
theorem dX35_stratum_4 : decode cX35_stratum 4 = .ok (.ifCond .ne 5, 3) := by decide +kernel
theorem dX35_stratum_7 : decode cX35_stratum 7 = .ok (.iconst (-1), 1) := by decide +kernel
theorem dX35_stratum_8 : decode cX35_stratum 8 = .ok (.ireturn, 1) := by decide +kernel
theorem dX35_stratum_9 : decode cX35_stratum 9 = .ok (.aload_n 0, 1) := by decide +kernel
theorem dX35_stratum_10 : decode cX35_stratum 10 = .ok (.invokevirtual 271, 3) := by decide +kernel
theorem dX35_stratum_13 : decode cX35_stratum 13 = .ok (.aload_n 0, 1) := by decide +kernel
theorem dX35_stratum_14 : decode cX35_stratum 14 = .ok (.getfield 167, 3) := by decide +kernel
theorem dX35_stratum_17 : decode cX35_stratum 17 = .ok (.iconst (-1), 1) := by decide +kernel
theorem dX35_stratum_18 : decode cX35_stratum 18 = .ok (.if_icmp .ne 12, 3) := by decide +kernel
theorem dX35_stratum_21 : decode cX35_stratum 21 = .ok (.aload_n 0, 1) := by decide +kernel
theorem dX35_stratum_22 : decode cX35_stratum 22 = .ok (.getfield 23, 3) := by decide +kernel
theorem dX35_stratum_25 : decode cX35_stratum 25 = .ok (.iload_n 1, 1) := by decide +kernel
theorem dX35_stratum_26 : decode cX35_stratum 26 = .ok (.iaload, 1) := by decide +kernel
theorem dX35_stratum_27 : decode cX35_stratum 27 = .ok (.goto 5, 3) := by decide +kernel
theorem dX35_stratum_30 : decode cX35_stratum 30 = .ok (.bipush (-2), 2) := by decide +kernel
theorem dX35_stratum_32 : decode cX35_stratum 32 = .ok (.ireturn, 1) := by decide +kernel
abbrev cX35_round : ByteArray := prog_58_method_37_code
def yX35_round : MethodName := ⟨RX35, "round", "(III)I"⟩
theorem dX35_round_0 : decode cX35_round 0 = .ok (.iload_n 1, 1) := by decide +kernel
theorem dX35_round_1 : decode cX35_round 1 = .ok (.iload_n 2, 1) := by decide +kernel
theorem dX35_round_2 : decode cX35_round 2 = .ok (.iload_n 3, 1) := by decide +kernel
theorem dX35_round_3 : decode cX35_round 3 = .ok (.invokestatic 88, 3) := by decide +kernel
theorem dX35_round_6 : decode cX35_round 6 = .ok (.ifCond .ne 5, 3) := by decide +kernel
theorem dX35_round_9 : decode cX35_round 9 = .ok (.iconst (-1), 1) := by decide +kernel
theorem dX35_round_10 : decode cX35_round 10 = .ok (.ireturn, 1) := by decide +kernel
theorem dX35_round_11 : decode cX35_round 11 = .ok (.aload_n 0, 1) := by decide +kernel
theorem dX35_round_12 : decode cX35_round 12 = .ok (.invokevirtual 271, 3) := by decide +kernel
theorem dX35_round_15 : decode cX35_round 15 = .ok (.aload_n 0, 1) := by decide +kernel
theorem dX35_round_16 : decode cX35_round 16 = .ok (.getfield 37, 3) := by decide +kernel
theorem dX35_round_19 : decode cX35_round 19 = .ok (.iload_n 1, 1) := by decide +kernel
theorem dX35_round_20 : decode cX35_round 20 = .ok (.iload_n 2, 1) := by decide +kernel
theorem dX35_round_21 : decode cX35_round 21 = .ok (.iload_n 3, 1) := by decide +kernel
theorem dX35_round_22 : decode cX35_round 22 = .ok (.invokestatic 92, 3) := by decide +kernel
theorem dX35_round_25 : decode cX35_round 25 = .ok (.iaload, 1) := by decide +kernel
theorem dX35_round_26 : decode cX35_round 26 = .ok (.ireturn, 1) := by decide +kernel
abbrev cX35_counts : ByteArray := prog_58_method_38_code
def yX35_counts : MethodName := ⟨RX35, "counts", "(III)I"⟩
theorem dX35_counts_0 : decode cX35_counts 0 = .ok (.iload_n 1, 1) := by decide +kernel
theorem dX35_counts_1 : decode cX35_counts 1 = .ok (.iload_n 2, 1) := by decide +kernel
theorem dX35_counts_2 : decode cX35_counts 2 = .ok (.iload_n 3, 1) := by decide +kernel
theorem dX35_counts_3 : decode cX35_counts 3 = .ok (.invokestatic 88, 3) := by decide +kernel
theorem dX35_counts_6 : decode cX35_counts 6 = .ok (.ifCond .ne 5, 3) := by decide +kernel
theorem dX35_counts_9 : decode cX35_counts 9 = .ok (.iconst (-1), 1) := by decide +kernel
theorem dX35_counts_10 : decode cX35_counts 10 = .ok (.ireturn, 1) := by decide +kernel
theorem dX35_counts_11 : decode cX35_counts 11 = .ok (.aload_n 0, 1) := by decide +kernel
theorem dX35_counts_12 : decode cX35_counts 12 = .ok (.invokevirtual 271, 3) := by decide +kernel
theorem dX35_counts_15 : decode cX35_counts 15 = .ok (.aload_n 0, 1) := by decide +kernel
theorem dX35_counts_16 : decode cX35_counts 16 = .ok (.getfield 40, 3) := by decide +kernel
theorem dX35_counts_19 : decode cX35_counts 19 = .ok (.iload_n 1, 1) := by decide +kernel
theorem dX35_counts_20 : decode cX35_counts 20 = .ok (.iload_n 2, 1) := by decide +kernel
theorem dX35_counts_21 : decode cX35_counts 21 = .ok (.iload_n 3, 1) := by decide +kernel
theorem dX35_counts_22 : decode cX35_counts 22 = .ok (.invokestatic 92, 3) := by decide +kernel
theorem dX35_counts_25 : decode cX35_counts 25 = .ok (.iaload, 1) := by decide +kernel
theorem dX35_counts_26 : decode cX35_counts 26 = .ok (.ireturn, 1) := by decide +kernel
abbrev cX35_row : ByteArray := prog_58_method_39_code
def yX35_row : MethodName := ⟨RX35, "row", "(I)I"⟩
theorem dX35_row_0 : decode cX35_row 0 = .ok (.aload_n 0, 1) := by decide +kernel
theorem dX35_row_1 : decode cX35_row 1 = .ok (.invokevirtual 271, 3) := by decide +kernel
theorem dX35_row_4 : decode cX35_row 4 = .ok (.iload_n 1, 1) := by decide +kernel
theorem dX35_row_5 : decode cX35_row 5 = .ok (.sipush 16384, 3) := by decide +kernel
theorem dX35_row_8 : decode cX35_row 8 = .ok (.if_icmp .lt 7, 3) := by decide +kernel
theorem dX35_row_11 : decode cX35_row 11 = .ok (.iconst (-1), 1) := by decide +kernel
theorem dX35_row_12 : decode cX35_row 12 = .ok (.goto 17, 3) := by decide +kernel
theorem dX35_row_15 : decode cX35_row 15 = .ok (.aload_n 0, 1) := by decide +kernel
theorem dX35_row_16 : decode cX35_row 16 = .ok (.getfield 34, 3) := by decide +kernel
theorem dX35_row_19 : decode cX35_row 19 = .ok (.iload_n 1, 1) := by decide +kernel
theorem dX35_row_20 : decode cX35_row 20 = .ok (.iconst 1, 1) := by decide +kernel
theorem dX35_row_21 : decode cX35_row 21 = .ok (.iadd, 1) := by decide +kernel
theorem dX35_row_22 : decode cX35_row 22 = .ok (.iconst 0, 1) := by decide +kernel
theorem dX35_row_23 : decode cX35_row 23 = .ok (.invokestatic 195, 3) := by decide +kernel
theorem dX35_row_26 : decode cX35_row 26 = .ok (.invokevirtual 201, 3) := by decide +kernel
theorem dX35_row_29 : decode cX35_row 29 = .ok (.istore_n 2, 1) := by decide +kernel
theorem dX35_row_30 : decode cX35_row 30 = .ok (.iload_n 2, 1) := by decide +kernel
theorem dX35_row_31 : decode cX35_row 31 = .ok (.ifCond .ge 8, 3) := by decide +kernel
theorem dX35_row_34 : decode cX35_row 34 = .ok (.bipush (-2), 2) := by decide +kernel
theorem dX35_row_36 : decode cX35_row 36 = .ok (.goto 4, 3) := by decide +kernel
theorem dX35_row_39 : decode cX35_row 39 = .ok (.iload_n 2, 1) := by decide +kernel
theorem dX35_row_40 : decode cX35_row 40 = .ok (.ireturn, 1) := by decide +kernel
abbrev cX35_size : ByteArray := prog_58_method_40_code
def yX35_size : MethodName := ⟨RX35, "size", "()I"⟩
theorem dX35_size_0 : decode cX35_size 0 = .ok (.aload_n 0, 1) := by decide +kernel
theorem dX35_size_1 : decode cX35_size 1 = .ok (.invokevirtual 271, 3) := by decide +kernel
theorem dX35_size_4 : decode cX35_size 4 = .ok (.aload_n 0, 1) := by decide +kernel
theorem dX35_size_5 : decode cX35_size 5 = .ok (.getfield 34, 3) := by decide +kernel
theorem dX35_size_8 : decode cX35_size 8 = .ok (.invokevirtual 274, 3) := by decide +kernel
theorem dX35_size_11 : decode cX35_size 11 = .ok (.ireturn, 1) := by decide +kernel
theorem in_X35 : ∀ w ∈ wsX350, w ∈ lw_all := lw_in wsX350 [1631, 1633, 1635, 1637, 1639, 1641, 1643, 1645, 1647, 1649, 1651, 1653, 1655, 1657, 1659, 1661, 1663, 1665, 1667, 1669, 1671] (by decide +kernel) (by decide +kernel)
def RX37 : String := "KnowHouse$RuleEngine$Coming"
abbrev cX37_init : ByteArray := prog_59_method_1_code
def yX37_init : MethodName := ⟨RX37, "<init>", "()V"⟩
theorem dX37_init_0 : decode cX37_init 0 = .ok (.aload_n 0, 1) := by decide +kernel
theorem dX37_init_1 : decode cX37_init 1 = .ok (.invokespecial 1, 3) := by decide +kernel
theorem dX37_init_4 : decode cX37_init 4 = .ok (.return_, 1) := by decide +kernel
abbrev cX37_take : ByteArray := prog_59_method_2_code
def yX37_take : MethodName := ⟨RX37, "take", "(LKnowHouse$RuleEngine;LKnowHouse$RuleEngine$Rule;)V"⟩
theorem dX37_take_0 : decode cX37_take 0 = .ok (.aload_n 1, 1) := by decide +kernel
theorem dX37_take_1 : decode cX37_take 1 = .ok (.aload_n 1, 1) := by decide +kernel
theorem dX37_take_2 : decode cX37_take 2 = .ok (.aload_n 2, 1) := by decide +kernel
theorem dX37_take_3 : decode cX37_take 3 = .ok (.invokevirtual 7, 3) := by decide +kernel
theorem dX37_take_6 : decode cX37_take 6 = .ok (.invokevirtual 13, 3) := by decide +kernel
theorem dX37_take_9 : decode cX37_take 9 = .ok (.return_, 1) := by decide +kernel
def TX37 : u_T := fun _ => ("", "", "", false)
def tyX37 : Nat → FieldType := fun _ => .int
theorem nmX37 : ∀ a, a < 0 → ∀ b, b < 0 → a ≠ b → (TX37 a).2.1 ≠ (TX37 b).2.1 := fun a h => absurd h (Nat.not_lt_zero a)
theorem tyX37_ok : ∀ k, k < 0 → parseFieldDescriptor (TX37 k).2.2.1 = some (tyX37 k) := fun k h => absurd h (Nat.not_lt_zero k)
theorem in_X37 : ∀ w ∈ u_ws RX37 TX37 0, w ∈ lw_all := fun w h => by cases h
def RX38 : String := "KnowHouse$RuleEngine$Counting"
abbrev cX38_init : ByteArray := prog_60_method_1_code
def yX38_init : MethodName := ⟨RX38, "<init>", "()V"⟩
theorem dX38_init_0 : decode cX38_init 0 = .ok (.aload_n 0, 1) := by decide +kernel
theorem dX38_init_1 : decode cX38_init 1 = .ok (.invokespecial 1, 3) := by decide +kernel
theorem dX38_init_4 : decode cX38_init 4 = .ok (.return_, 1) := by decide +kernel
abbrev cX38_take : ByteArray := prog_60_method_2_code
def yX38_take : MethodName := ⟨RX38, "take", "(LKnowHouse$RuleEngine;LKnowHouse$RuleEngine$Rule;)V"⟩
theorem dX38_take_0 : decode cX38_take 0 = .ok (.aload_n 1, 1) := by decide +kernel
theorem dX38_take_1 : decode cX38_take 1 = .ok (.getfield 7, 3) := by decide +kernel
theorem dX38_take_4 : decode cX38_take 4 = .ok (.aload_n 1, 1) := by decide +kernel
theorem dX38_take_5 : decode cX38_take 5 = .ok (.aload_n 2, 1) := by decide +kernel
theorem dX38_take_6 : decode cX38_take 6 = .ok (.invokevirtual 13, 3) := by decide +kernel
theorem dX38_take_9 : decode cX38_take 9 = .ok (.dup2, 1) := by decide +kernel
theorem dX38_take_10 : decode cX38_take 10 = .ok (.iaload, 1) := by decide +kernel
theorem dX38_take_11 : decode cX38_take 11 = .ok (.iconst 1, 1) := by decide +kernel
theorem dX38_take_12 : decode cX38_take 12 = .ok (.iadd, 1) := by decide +kernel
theorem dX38_take_13 : decode cX38_take 13 = .ok (.iastore, 1) := by decide +kernel
theorem dX38_take_14 : decode cX38_take 14 = .ok (.return_, 1) := by decide +kernel
def TX38 : u_T := fun _ => ("", "", "", false)
def tyX38 : Nat → FieldType := fun _ => .int
theorem nmX38 : ∀ a, a < 0 → ∀ b, b < 0 → a ≠ b → (TX38 a).2.1 ≠ (TX38 b).2.1 := fun a h => absurd h (Nat.not_lt_zero a)
theorem tyX38_ok : ∀ k, k < 0 → parseFieldDescriptor (TX38 k).2.2.1 = some (tyX38 k) := fun k h => absurd h (Nat.not_lt_zero k)
theorem in_X38 : ∀ w ∈ u_ws RX38 TX38 0, w ∈ lw_all := fun w h => by cases h
def RX39 : String := "KnowHouse$RuleEngine$Gathering"
abbrev cX39_init : ByteArray := prog_62_method_1_code
def yX39_init : MethodName := ⟨RX39, "<init>", "()V"⟩
theorem dX39_init_0 : decode cX39_init 0 = .ok (.aload_n 0, 1) := by decide +kernel
theorem dX39_init_1 : decode cX39_init 1 = .ok (.invokespecial 3, 3) := by decide +kernel
theorem dX39_init_4 : decode cX39_init 4 = .ok (.return_, 1) := by decide +kernel
abbrev cX39_take : ByteArray := prog_62_method_2_code
def yX39_take : MethodName := ⟨RX39, "take", "(LKnowHouse$RuleEngine;LKnowHouse$RuleEngine$Rule;)V"⟩
theorem dX39_take_0 : decode cX39_take 0 = .ok (.aload_n 1, 1) := by decide +kernel
theorem dX39_take_1 : decode cX39_take 1 = .ok (.aload_n 2, 1) := by decide +kernel
theorem dX39_take_2 : decode cX39_take 2 = .ok (.getfield 9, 3) := by decide +kernel
theorem dX39_take_5 : decode cX39_take 5 = .ok (.invokevirtual 15, 3) := by decide +kernel
theorem dX39_take_8 : decode cX39_take 8 = .ok (.invokevirtual 21, 3) := by decide +kernel
theorem dX39_take_11 : decode cX39_take 11 = .ok (.istore_n 3, 1) := by decide +kernel
theorem dX39_take_12 : decode cX39_take 12 = .ok (.aload_n 2, 1) := by decide +kernel
theorem dX39_take_13 : decode cX39_take 13 = .ok (.getfield 25, 3) := by decide +kernel
theorem dX39_take_16 : decode cX39_take 16 = .ok (.ifCond .ne 7, 3) := by decide +kernel
theorem dX39_take_19 : decode cX39_take 19 = .ok (.iconst 1, 1) := by decide +kernel
theorem dX39_take_20 : decode cX39_take 20 = .ok (.goto 11, 3) := by decide +kernel
theorem dX39_take_23 : decode cX39_take 23 = .ok (.aload_n 1, 1) := by decide +kernel
theorem dX39_take_24 : decode cX39_take 24 = .ok (.aload_n 2, 1) := by decide +kernel
theorem dX39_take_25 : decode cX39_take 25 = .ok (.getfield 29, 3) := by decide +kernel
theorem dX39_take_28 : decode cX39_take 28 = .ok (.invokevirtual 21, 3) := by decide +kernel
theorem dX39_take_31 : decode cX39_take 31 = .ok (.istore 4, 2) := by decide +kernel
theorem dX39_take_33 : decode cX39_take 33 = .ok (.aload_n 1, 1) := by decide +kernel
theorem dX39_take_34 : decode cX39_take 34 = .ok (.getfield 32, 3) := by decide +kernel
theorem dX39_take_37 : decode cX39_take 37 = .ok (.iload_n 3, 1) := by decide +kernel
theorem dX39_take_38 : decode cX39_take 38 = .ok (.iaload, 1) := by decide +kernel
theorem dX39_take_39 : decode cX39_take 39 = .ok (.istore 5, 2) := by decide +kernel
theorem dX39_take_41 : decode cX39_take 41 = .ok (.iload 5, 2) := by decide +kernel
theorem dX39_take_43 : decode cX39_take 43 = .ok (.iconst (-1), 1) := by decide +kernel
theorem dX39_take_44 : decode cX39_take 44 = .ok (.if_icmp .ne 14, 3) := by decide +kernel
theorem dX39_take_47 : decode cX39_take 47 = .ok (.aload_n 1, 1) := by decide +kernel
theorem dX39_take_48 : decode cX39_take 48 = .ok (.getfield 32, 3) := by decide +kernel
theorem dX39_take_51 : decode cX39_take 51 = .ok (.iload_n 3, 1) := by decide +kernel
theorem dX39_take_52 : decode cX39_take 52 = .ok (.iload 4, 2) := by decide +kernel
theorem dX39_take_54 : decode cX39_take 54 = .ok (.iastore, 1) := by decide +kernel
theorem dX39_take_55 : decode cX39_take 55 = .ok (.goto 53, 3) := by decide +kernel
theorem dX39_take_58 : decode cX39_take 58 = .ok (.aload_n 1, 1) := by decide +kernel
theorem dX39_take_59 : decode cX39_take 59 = .ok (.getfield 32, 3) := by decide +kernel
theorem dX39_take_62 : decode cX39_take 62 = .ok (.iload_n 3, 1) := by decide +kernel
theorem dX39_take_63 : decode cX39_take 63 = .ok (.aload_n 2, 1) := by decide +kernel
theorem dX39_take_64 : decode cX39_take 64 = .ok (.getfield 25, 3) := by decide +kernel
theorem dX39_take_67 : decode cX39_take 67 = .ok (.iconst 2, 1) := by decide +kernel
theorem dX39_take_68 : decode cX39_take 68 = .ok (.if_icmp .ge 14, 3) := by decide +kernel
theorem dX39_take_71 : decode cX39_take 71 = .ok (.iload 5, 2) := by decide +kernel
theorem dX39_take_73 : decode cX39_take 73 = .ok (.iload 4, 2) := by decide +kernel
theorem dX39_take_75 : decode cX39_take 75 = .ok (.iadd, 1) := by decide +kernel
theorem dX39_take_76 : decode cX39_take 76 = .ok (.bipush 32, 2) := by decide +kernel
theorem dX39_take_78 : decode cX39_take 78 = .ok (.irem, 1) := by decide +kernel
theorem dX39_take_79 : decode cX39_take 79 = .ok (.goto 28, 3) := by decide +kernel
theorem dX39_take_82 : decode cX39_take 82 = .ok (.aload_n 2, 1) := by decide +kernel
theorem dX39_take_83 : decode cX39_take 83 = .ok (.getfield 25, 3) := by decide +kernel
theorem dX39_take_86 : decode cX39_take 86 = .ok (.iconst 2, 1) := by decide +kernel
theorem dX39_take_87 : decode cX39_take 87 = .ok (.if_icmp .ne 13, 3) := by decide +kernel
theorem dX39_take_90 : decode cX39_take 90 = .ok (.iload 5, 2) := by decide +kernel
theorem dX39_take_92 : decode cX39_take 92 = .ok (.iload 4, 2) := by decide +kernel
theorem dX39_take_94 : decode cX39_take 94 = .ok (.invokestatic 36, 3) := by decide +kernel
theorem dX39_take_97 : decode cX39_take 97 = .ok (.goto 10, 3) := by decide +kernel
theorem dX39_take_100 : decode cX39_take 100 = .ok (.iload 5, 2) := by decide +kernel
theorem dX39_take_102 : decode cX39_take 102 = .ok (.iload 4, 2) := by decide +kernel
theorem dX39_take_104 : decode cX39_take 104 = .ok (.invokestatic 42, 3) := by decide +kernel
theorem dX39_take_107 : decode cX39_take 107 = .ok (.iastore, 1) := by decide +kernel
theorem dX39_take_108 : decode cX39_take 108 = .ok (.return_, 1) := by decide +kernel
def TX39 : u_T := fun _ => ("", "", "", false)
def tyX39 : Nat → FieldType := fun _ => .int
theorem nmX39 : ∀ a, a < 0 → ∀ b, b < 0 → a ≠ b → (TX39 a).2.1 ≠ (TX39 b).2.1 := fun a h => absurd h (Nat.not_lt_zero a)
theorem tyX39_ok : ∀ k, k < 0 → parseFieldDescriptor (TX39 k).2.2.1 = some (tyX39 k) := fun k h => absurd h (Nat.not_lt_zero k)
theorem in_X39 : ∀ w ∈ u_ws RX39 TX39 0, w ∈ lw_all := fun w h => by cases h
def RX83 : String := "KnowHouse$RuleEngine$Rule"
def TX83 : u_T := fun k => match k with
  | 0 => ("KnowHouse$RuleEngine$Rule", "head", "LKnowHouse$RuleEngine$Part;", true)
  | 1 => ("KnowHouse$RuleEngine$Rule", "parts", "Ljava/util/ArrayList;", true)
  | 2 => ("KnowHouse$RuleEngine$Rule", "kind", "I", false)
  | _ => ("KnowHouse$RuleEngine$Rule", "variable", "I", false)
def tyX83 : Nat → FieldType := fun k => match k with
  | 0 => .object "KnowHouse$RuleEngine$Part"
  | 1 => .object "java/util/ArrayList"
  | 2 => .int
  | _ => .int
abbrev wsX830 : List Cond := u_ws RX83 TX83 4
theorem nmX83 : ∀ a, a < 4 → ∀ b, b < 4 → a ≠ b → (TX83 a).2.1 ≠ (TX83 b).2.1 := by decide +kernel
theorem tyX83_ok : ∀ k, k < 4 → parseFieldDescriptor (TX83 k).2.2.1 = some (tyX83 k) := by decide +kernel
abbrev cX83_isSafe : ByteArray := prog_64_method_3_code
def yX83_isSafe : MethodName := ⟨RX83, "isSafe", "()Z"⟩
theorem dX83_isSafe_0 : decode cX83_isSafe 0 = .ok (.aload_n 0, 1) := by decide +kernel
theorem dX83_isSafe_1 : decode cX83_isSafe 1 = .ok (.aload_n 0, 1) := by decide +kernel
theorem dX83_isSafe_2 : decode cX83_isSafe 2 = .ok (.getfield 22, 3) := by decide +kernel
theorem dX83_isSafe_5 : decode cX83_isSafe 5 = .ok (.invokevirtual 39, 3) := by decide +kernel
theorem dX83_isSafe_8 : decode cX83_isSafe 8 = .ok (.invokevirtual 45, 3) := by decide +kernel
theorem dX83_isSafe_11 : decode cX83_isSafe 11 = .ok (.ifCond .eq 43, 3) := by decide +kernel
theorem dX83_isSafe_14 : decode cX83_isSafe 14 = .ok (.aload_n 0, 1) := by decide +kernel
theorem dX83_isSafe_15 : decode cX83_isSafe 15 = .ok (.getfield 18, 3) := by decide +kernel
theorem dX83_isSafe_18 : decode cX83_isSafe 18 = .ok (.iconst (-1), 1) := by decide +kernel
theorem dX83_isSafe_19 : decode cX83_isSafe 19 = .ok (.if_icmp .ne 20, 3) := by decide +kernel
theorem dX83_isSafe_22 : decode cX83_isSafe 22 = .ok (.aload_n 0, 1) := by decide +kernel
theorem dX83_isSafe_23 : decode cX83_isSafe 23 = .ok (.aload_n 0, 1) := by decide +kernel
theorem dX83_isSafe_24 : decode cX83_isSafe 24 = .ok (.getfield 22, 3) := by decide +kernel
theorem dX83_isSafe_27 : decode cX83_isSafe 27 = .ok (.invokevirtual 42, 3) := by decide +kernel
theorem dX83_isSafe_30 : decode cX83_isSafe 30 = .ok (.invokevirtual 45, 3) := by decide +kernel
theorem dX83_isSafe_33 : decode cX83_isSafe 33 = .ok (.ifCond .eq 21, 3) := by decide +kernel
theorem dX83_isSafe_36 : decode cX83_isSafe 36 = .ok (.goto 14, 3) := by decide +kernel
theorem dX83_isSafe_39 : decode cX83_isSafe 39 = .ok (.aload_n 0, 1) := by decide +kernel
theorem dX83_isSafe_40 : decode cX83_isSafe 40 = .ok (.aload_n 0, 1) := by decide +kernel
theorem dX83_isSafe_41 : decode cX83_isSafe 41 = .ok (.getfield 49, 3) := by decide +kernel
theorem dX83_isSafe_44 : decode cX83_isSafe 44 = .ok (.invokevirtual 45, 3) := by decide +kernel
theorem dX83_isSafe_47 : decode cX83_isSafe 47 = .ok (.ifCond .eq 7, 3) := by decide +kernel
theorem dX83_isSafe_50 : decode cX83_isSafe 50 = .ok (.iconst 1, 1) := by decide +kernel
theorem dX83_isSafe_51 : decode cX83_isSafe 51 = .ok (.goto 4, 3) := by decide +kernel
theorem dX83_isSafe_54 : decode cX83_isSafe 54 = .ok (.iconst 0, 1) := by decide +kernel
theorem dX83_isSafe_55 : decode cX83_isSafe 55 = .ok (.istore_n 1, 1) := by decide +kernel
theorem dX83_isSafe_56 : decode cX83_isSafe 56 = .ok (.iconst 0, 1) := by decide +kernel
theorem dX83_isSafe_57 : decode cX83_isSafe 57 = .ok (.istore_n 2, 1) := by decide +kernel
theorem dX83_isSafe_58 : decode cX83_isSafe 58 = .ok (.iload_n 2, 1) := by decide +kernel
theorem dX83_isSafe_59 : decode cX83_isSafe 59 = .ok (.aload_n 0, 1) := by decide +kernel
theorem dX83_isSafe_60 : decode cX83_isSafe 60 = .ok (.getfield 12, 3) := by decide +kernel
theorem dX83_isSafe_63 : decode cX83_isSafe 63 = .ok (.invokevirtual 26, 3) := by decide +kernel
theorem dX83_isSafe_66 : decode cX83_isSafe 66 = .ok (.if_icmp .ge 59, 3) := by decide +kernel
theorem dX83_isSafe_69 : decode cX83_isSafe 69 = .ok (.iload_n 1, 1) := by decide +kernel
theorem dX83_isSafe_70 : decode cX83_isSafe 70 = .ok (.aload_n 0, 1) := by decide +kernel
theorem dX83_isSafe_71 : decode cX83_isSafe 71 = .ok (.aload_n 0, 1) := by decide +kernel
theorem dX83_isSafe_72 : decode cX83_isSafe 72 = .ok (.getfield 12, 3) := by decide +kernel
theorem dX83_isSafe_75 : decode cX83_isSafe 75 = .ok (.iload_n 2, 1) := by decide +kernel
theorem dX83_isSafe_76 : decode cX83_isSafe 76 = .ok (.invokevirtual 30, 3) := by decide +kernel
theorem dX83_isSafe_79 : decode cX83_isSafe 79 = .ok (.checkcast 34, 3) := by decide +kernel
theorem dX83_isSafe_82 : decode cX83_isSafe 82 = .ok (.invokevirtual 39, 3) := by decide +kernel
theorem dX83_isSafe_85 : decode cX83_isSafe 85 = .ok (.invokevirtual 45, 3) := by decide +kernel
theorem dX83_isSafe_88 : decode cX83_isSafe 88 = .ok (.ifCond .eq 28, 3) := by decide +kernel
theorem dX83_isSafe_91 : decode cX83_isSafe 91 = .ok (.aload_n 0, 1) := by decide +kernel
theorem dX83_isSafe_92 : decode cX83_isSafe 92 = .ok (.aload_n 0, 1) := by decide +kernel
theorem dX83_isSafe_93 : decode cX83_isSafe 93 = .ok (.getfield 12, 3) := by decide +kernel
theorem dX83_isSafe_96 : decode cX83_isSafe 96 = .ok (.iload_n 2, 1) := by decide +kernel
theorem dX83_isSafe_97 : decode cX83_isSafe 97 = .ok (.invokevirtual 30, 3) := by decide +kernel
theorem dX83_isSafe_100 : decode cX83_isSafe 100 = .ok (.checkcast 34, 3) := by decide +kernel
theorem dX83_isSafe_103 : decode cX83_isSafe 103 = .ok (.invokevirtual 42, 3) := by decide +kernel
theorem dX83_isSafe_106 : decode cX83_isSafe 106 = .ok (.invokevirtual 45, 3) := by decide +kernel
theorem dX83_isSafe_109 : decode cX83_isSafe 109 = .ok (.ifCond .eq 7, 3) := by decide +kernel
theorem dX83_isSafe_112 : decode cX83_isSafe 112 = .ok (.iconst 1, 1) := by decide +kernel
theorem dX83_isSafe_113 : decode cX83_isSafe 113 = .ok (.goto 4, 3) := by decide +kernel
theorem dX83_isSafe_116 : decode cX83_isSafe 116 = .ok (.iconst 0, 1) := by decide +kernel
theorem dX83_isSafe_117 : decode cX83_isSafe 117 = .ok (.iand, 1) := by decide +kernel
theorem dX83_isSafe_118 : decode cX83_isSafe 118 = .ok (.istore_n 1, 1) := by decide +kernel
theorem dX83_isSafe_119 : decode cX83_isSafe 119 = .ok (.iinc 2 1, 3) := by decide +kernel
theorem dX83_isSafe_122 : decode cX83_isSafe 122 = .ok (.goto (-64), 3) := by decide +kernel
theorem dX83_isSafe_125 : decode cX83_isSafe 125 = .ok (.iload_n 1, 1) := by decide +kernel
theorem dX83_isSafe_126 : decode cX83_isSafe 126 = .ok (.ireturn, 1) := by decide +kernel
abbrev cX83_binds : ByteArray := prog_64_method_2_code
def yX83_binds : MethodName := ⟨RX83, "binds", "(I)Z"⟩
theorem dX83_binds_0 : decode cX83_binds 0 = .ok (.iload_n 1, 1) := by decide +kernel
theorem dX83_binds_1 : decode cX83_binds 1 = .ok (.ifCond .lt 5, 3) := by decide +kernel
theorem dX83_binds_4 : decode cX83_binds 4 = .ok (.iconst 1, 1) := by decide +kernel
theorem dX83_binds_5 : decode cX83_binds 5 = .ok (.ireturn, 1) := by decide +kernel
theorem dX83_binds_6 : decode cX83_binds 6 = .ok (.iconst 0, 1) := by decide +kernel
theorem dX83_binds_7 : decode cX83_binds 7 = .ok (.istore_n 2, 1) := by decide +kernel
theorem dX83_binds_8 : decode cX83_binds 8 = .ok (.iload_n 2, 1) := by decide +kernel
theorem dX83_binds_9 : decode cX83_binds 9 = .ok (.aload_n 0, 1) := by decide +kernel
theorem dX83_binds_10 : decode cX83_binds 10 = .ok (.getfield 12, 3) := by decide +kernel
theorem dX83_binds_13 : decode cX83_binds 13 = .ok (.invokevirtual 26, 3) := by decide +kernel
theorem dX83_binds_16 : decode cX83_binds 16 = .ok (.if_icmp .ge 46, 3) := by decide +kernel
theorem dX83_binds_19 : decode cX83_binds 19 = .ok (.aload_n 0, 1) := by decide +kernel
theorem dX83_binds_20 : decode cX83_binds 20 = .ok (.getfield 12, 3) := by decide +kernel
theorem dX83_binds_23 : decode cX83_binds 23 = .ok (.iload_n 2, 1) := by decide +kernel
theorem dX83_binds_24 : decode cX83_binds 24 = .ok (.invokevirtual 30, 3) := by decide +kernel
theorem dX83_binds_27 : decode cX83_binds 27 = .ok (.checkcast 34, 3) := by decide +kernel
theorem dX83_binds_30 : decode cX83_binds 30 = .ok (.astore_n 3, 1) := by decide +kernel
theorem dX83_binds_31 : decode cX83_binds 31 = .ok (.aload_n 3, 1) := by decide +kernel
theorem dX83_binds_32 : decode cX83_binds 32 = .ok (.invokevirtual 36, 3) := by decide +kernel
theorem dX83_binds_35 : decode cX83_binds 35 = .ok (.ifCond .ne 21, 3) := by decide +kernel
theorem dX83_binds_38 : decode cX83_binds 38 = .ok (.aload_n 3, 1) := by decide +kernel
theorem dX83_binds_39 : decode cX83_binds 39 = .ok (.invokevirtual 39, 3) := by decide +kernel
theorem dX83_binds_42 : decode cX83_binds 42 = .ok (.iload_n 1, 1) := by decide +kernel
theorem dX83_binds_43 : decode cX83_binds 43 = .ok (.if_icmp .eq 11, 3) := by decide +kernel
theorem dX83_binds_46 : decode cX83_binds 46 = .ok (.aload_n 3, 1) := by decide +kernel
theorem dX83_binds_47 : decode cX83_binds 47 = .ok (.invokevirtual 42, 3) := by decide +kernel
theorem dX83_binds_50 : decode cX83_binds 50 = .ok (.iload_n 1, 1) := by decide +kernel
theorem dX83_binds_51 : decode cX83_binds 51 = .ok (.if_icmp .ne 5, 3) := by decide +kernel
theorem dX83_binds_54 : decode cX83_binds 54 = .ok (.iconst 1, 1) := by decide +kernel
theorem dX83_binds_55 : decode cX83_binds 55 = .ok (.ireturn, 1) := by decide +kernel
theorem dX83_binds_56 : decode cX83_binds 56 = .ok (.iinc 2 1, 3) := by decide +kernel
theorem dX83_binds_59 : decode cX83_binds 59 = .ok (.goto (-51), 3) := by decide +kernel
theorem dX83_binds_62 : decode cX83_binds 62 = .ok (.iconst 0, 1) := by decide +kernel
theorem dX83_binds_63 : decode cX83_binds 63 = .ok (.ireturn, 1) := by decide +kernel
abbrev cX83_isStrict : ByteArray := prog_64_method_4_code
def yX83_isStrict : MethodName := ⟨RX83, "isStrict", "(LKnowHouse$RuleEngine$Part;)Z"⟩
theorem dX83_isStrict_0 : decode cX83_isStrict 0 = .ok (.aload_n 1, 1) := by decide +kernel
theorem dX83_isStrict_1 : decode cX83_isStrict 1 = .ok (.invokevirtual 36, 3) := by decide +kernel
theorem dX83_isStrict_4 : decode cX83_isStrict 4 = .ok (.iconst 1, 1) := by decide +kernel
theorem dX83_isStrict_5 : decode cX83_isStrict 5 = .ok (.if_icmp .eq 11, 3) := by decide +kernel
theorem dX83_isStrict_8 : decode cX83_isStrict 8 = .ok (.aload_n 0, 1) := by decide +kernel
theorem dX83_isStrict_9 : decode cX83_isStrict 9 = .ok (.getfield 18, 3) := by decide +kernel
theorem dX83_isStrict_12 : decode cX83_isStrict 12 = .ok (.iconst (-1), 1) := by decide +kernel
theorem dX83_isStrict_13 : decode cX83_isStrict 13 = .ok (.if_icmp .eq 7, 3) := by decide +kernel
theorem dX83_isStrict_16 : decode cX83_isStrict 16 = .ok (.iconst 1, 1) := by decide +kernel
theorem dX83_isStrict_17 : decode cX83_isStrict 17 = .ok (.goto 4, 3) := by decide +kernel
theorem dX83_isStrict_20 : decode cX83_isStrict 20 = .ok (.iconst 0, 1) := by decide +kernel
theorem dX83_isStrict_21 : decode cX83_isStrict 21 = .ok (.ireturn, 1) := by decide +kernel
abbrev cX83_init : ByteArray := prog_64_method_1_code
def yX83_init : MethodName := ⟨RX83, "<init>", "(LKnowHouse$RuleEngine$Part;)V"⟩
theorem dX83_init_0 : decode cX83_init 0 = .ok (.aload_n 0, 1) := by decide +kernel
theorem dX83_init_1 : decode cX83_init 1 = .ok (.invokespecial 3, 3) := by decide +kernel
theorem dX83_init_4 : decode cX83_init 4 = .ok (.aload_n 0, 1) := by decide +kernel
theorem dX83_init_5 : decode cX83_init 5 = .ok (.new 9, 3) := by decide +kernel
theorem dX83_init_8 : decode cX83_init 8 = .ok (.dup, 1) := by decide +kernel
theorem dX83_init_9 : decode cX83_init 9 = .ok (.invokespecial 11, 3) := by decide +kernel
theorem dX83_init_12 : decode cX83_init 12 = .ok (.putfield 12, 3) := by decide +kernel
theorem dX83_init_15 : decode cX83_init 15 = .ok (.aload_n 0, 1) := by decide +kernel
theorem dX83_init_16 : decode cX83_init 16 = .ok (.iconst (-1), 1) := by decide +kernel
theorem dX83_init_17 : decode cX83_init 17 = .ok (.putfield 18, 3) := by decide +kernel
theorem dX83_init_20 : decode cX83_init 20 = .ok (.aload_n 0, 1) := by decide +kernel
theorem dX83_init_21 : decode cX83_init 21 = .ok (.aload_n 1, 1) := by decide +kernel
theorem dX83_init_22 : decode cX83_init 22 = .ok (.putfield 22, 3) := by decide +kernel
theorem dX83_init_25 : decode cX83_init 25 = .ok (.return_, 1) := by decide +kernel
theorem in_X83 : ∀ w ∈ wsX830, w ∈ lw_all := lw_in wsX830 [5355, 5357, 5359, 5361] (by decide +kernel) (by decide +kernel)
def RX84 : String := "KnowHouse$RuleEngine$Part"
def TX84 : u_T := fun k => match k with
  | 0 => ("KnowHouse$RuleEngine$Part", "sort", "I", true)
  | 1 => ("KnowHouse$RuleEngine$Part", "name", "I", true)
  | 2 => ("KnowHouse$RuleEngine$Part", "x", "I", true)
  | _ => ("KnowHouse$RuleEngine$Part", "y", "I", true)
def tyX84 : Nat → FieldType := fun k => match k with
  | 0 => .int
  | 1 => .int
  | 2 => .int
  | _ => .int
abbrev wsX840 : List Cond := u_ws RX84 TX84 4
theorem nmX84 : ∀ a, a < 4 → ∀ b, b < 4 → a ≠ b → (TX84 a).2.1 ≠ (TX84 b).2.1 := by decide +kernel
theorem tyX84_ok : ∀ k, k < 4 → parseFieldDescriptor (TX84 k).2.2.1 = some (tyX84 k) := by decide +kernel
abbrev cX84_x : ByteArray := prog_63_method_7_code
def yX84_x : MethodName := ⟨RX84, "x", "()I"⟩
theorem dX84_x_0 : decode cX84_x 0 = .ok (.aload_n 0, 1) := by decide +kernel
theorem dX84_x_1 : decode cX84_x 1 = .ok (.getfield 16, 3) := by decide +kernel
theorem dX84_x_4 : decode cX84_x 4 = .ok (.ireturn, 1) := by decide +kernel
abbrev cX84_sort : ByteArray := prog_63_method_5_code
def yX84_sort : MethodName := ⟨RX84, "sort", "()I"⟩
theorem dX84_sort_0 : decode cX84_sort 0 = .ok (.aload_n 0, 1) := by decide +kernel
theorem dX84_sort_1 : decode cX84_sort 1 = .ok (.getfield 7, 3) := by decide +kernel
theorem dX84_sort_4 : decode cX84_sort 4 = .ok (.ireturn, 1) := by decide +kernel
abbrev cX84_y : ByteArray := prog_63_method_8_code
def yX84_y : MethodName := ⟨RX84, "y", "()I"⟩
theorem dX84_y_0 : decode cX84_y 0 = .ok (.aload_n 0, 1) := by decide +kernel
theorem dX84_y_1 : decode cX84_y 1 = .ok (.getfield 19, 3) := by decide +kernel
theorem dX84_y_4 : decode cX84_y 4 = .ok (.ireturn, 1) := by decide +kernel
abbrev cX84_name : ByteArray := prog_63_method_6_code
def yX84_name : MethodName := ⟨RX84, "name", "()I"⟩
theorem dX84_name_0 : decode cX84_name 0 = .ok (.aload_n 0, 1) := by decide +kernel
theorem dX84_name_1 : decode cX84_name 1 = .ok (.getfield 13, 3) := by decide +kernel
theorem dX84_name_4 : decode cX84_name 4 = .ok (.ireturn, 1) := by decide +kernel
abbrev cX84_init : ByteArray := prog_63_method_1_code
def yX84_init : MethodName := ⟨RX84, "<init>", "(IIII)V"⟩
theorem dX84_init_0 : decode cX84_init 0 = .ok (.aload_n 0, 1) := by decide +kernel
theorem dX84_init_1 : decode cX84_init 1 = .ok (.invokespecial 1, 3) := by decide +kernel
theorem dX84_init_4 : decode cX84_init 4 = .ok (.aload_n 0, 1) := by decide +kernel
theorem dX84_init_5 : decode cX84_init 5 = .ok (.iload_n 1, 1) := by decide +kernel
theorem dX84_init_6 : decode cX84_init 6 = .ok (.putfield 7, 3) := by decide +kernel
theorem dX84_init_9 : decode cX84_init 9 = .ok (.aload_n 0, 1) := by decide +kernel
theorem dX84_init_10 : decode cX84_init 10 = .ok (.iload_n 2, 1) := by decide +kernel
theorem dX84_init_11 : decode cX84_init 11 = .ok (.putfield 13, 3) := by decide +kernel
theorem dX84_init_14 : decode cX84_init 14 = .ok (.aload_n 0, 1) := by decide +kernel
theorem dX84_init_15 : decode cX84_init 15 = .ok (.iload_n 3, 1) := by decide +kernel
theorem dX84_init_16 : decode cX84_init 16 = .ok (.putfield 16, 3) := by decide +kernel
theorem dX84_init_19 : decode cX84_init 19 = .ok (.aload_n 0, 1) := by decide +kernel
theorem dX84_init_20 : decode cX84_init 20 = .ok (.iload 4, 2) := by decide +kernel
theorem dX84_init_22 : decode cX84_init 22 = .ok (.putfield 19, 3) := by decide +kernel
theorem dX84_init_25 : decode cX84_init 25 = .ok (.return_, 1) := by decide +kernel
theorem in_X84 : ∀ w ∈ wsX840, w ∈ lw_all := lw_in wsX840 [5329, 5331, 5333, 5335] (by decide +kernel) (by decide +kernel)
def RX36 : String := "KnowHouse$RuleEngine$Found"
abbrev cX36_init : ByteArray := prog_61_method_1_code
def yX36_init : MethodName := ⟨RX36, "<init>", "()V"⟩
theorem dX36_init_0 : decode cX36_init 0 = .ok (.aload_n 0, 1) := by decide +kernel
theorem dX36_init_1 : decode cX36_init 1 = .ok (.invokespecial 1, 3) := by decide +kernel
theorem dX36_init_4 : decode cX36_init 4 = .ok (.return_, 1) := by decide +kernel
def RJ7 : String := "java/lang/Record"
abbrev cJ7_init : ByteArray := prog_108_method_1_code
def yJ7_init : MethodName := ⟨RJ7, "<init>", "()V"⟩
theorem dJ7_init_0 : decode cJ7_init 0 = .ok (.aload_n 0, 1) := by decide +kernel
theorem dJ7_init_1 : decode cJ7_init 1 = .ok (.invokespecial 1, 3) := by decide +kernel
theorem dJ7_init_4 : decode cJ7_init 4 = .ok (.return_, 1) := by decide +kernel
theorem q521 : (Jvm.Cond.initialized "KnowHouse$RuleEngine") ∈ lw_all := lw_g (lw_at lw_m1 43 rfl) rfl
theorem q522 : (Jvm.Cond.initialized "KnowHouse$RuleEngine$Found") ∈ lw_all := lw_g (lw_at lw_m1 44 rfl) rfl
theorem q523 : (Jvm.Cond.initialized "KnowHouse$RuleEngine$Coming") ∈ lw_all := lw_g (lw_at lw_m1 45 rfl) rfl
theorem q524 : (Jvm.Cond.initialized "KnowHouse$RuleEngine$Counting") ∈ lw_all := lw_g (lw_at lw_m1 46 rfl) rfl
theorem q525 : (Jvm.Cond.initialized "KnowHouse$RuleEngine$Gathering") ∈ lw_all := lw_g (lw_at lw_m1 47 rfl) rfl
theorem q531 : (Jvm.Cond.initialized "java/lang/Record") ∈ lw_all := lw_g (lw_at lw_m1 53 rfl) rfl
theorem q591 : (Jvm.Cond.initialized "KnowHouse$RuleEngine$Rule") ∈ lw_all := lw_g (lw_at lw_m1 113 rfl) rfl
theorem q592 : (Jvm.Cond.initialized "KnowHouse$RuleEngine$Part") ∈ lw_all := lw_g (lw_at lw_m1 114 rfl) rfl
theorem q1577 : (Jvm.Cond.methodLink "KnowHouse$RuleEngine" (1 : Nat) ({ cls := "java/lang/Object", name := "<init>", desc := "()V" } : Jvm.MethodName)) ∈ lw_all := lw_g (lw_at lw_m5 139 rfl) rfl
theorem q1578 : (Jvm.Cond.classLink "KnowHouse$RuleEngine" (7 : Nat) "java/util/BitSet") ∈ lw_all := lw_g (lw_at lw_m5 140 rfl) rfl
theorem q1579 : (Jvm.Cond.methodLink "KnowHouse$RuleEngine" (9 : Nat) ({ cls := "java/util/BitSet", name := "<init>", desc := "()V" } : Jvm.MethodName)) ∈ lw_all := lw_g (lw_at lw_m5 141 rfl) rfl
theorem q1580 : (Jvm.Cond.instanceMethod ({ cls := "java/util/BitSet", name := "<init>", desc := "()V" } : Jvm.MethodName)) ∈ lw_all := lw_g (lw_at lw_m5 142 rfl) rfl
theorem q1581 : (Jvm.Cond.code ({ cls := "java/util/BitSet", name := "<init>", desc := "()V" } : Jvm.MethodName) prog_125_method_4_code (1 : Nat) (Option.none : Option Jvm.ClassFile.FieldType)) ∈ lw_all := lw_g (lw_at lw_m5 143 rfl) rfl
theorem q1582 : (Jvm.Cond.classLink "KnowHouse$RuleEngine" (16 : Nat) "java/util/ArrayList") ∈ lw_all := lw_g (lw_at lw_m5 144 rfl) rfl
theorem q1583 : (Jvm.Cond.methodLink "KnowHouse$RuleEngine" (18 : Nat) ({ cls := "java/util/ArrayList", name := "<init>", desc := "()V" } : Jvm.MethodName)) ∈ lw_all := lw_g (lw_at lw_m5 145 rfl) rfl
theorem q1584 : (Jvm.Cond.classLink "KnowHouse$RuleEngine" (52 : Nat) "KnowHouse$RuleEngine$Coming") ∈ lw_all := lw_g (lw_at lw_m5 146 rfl) rfl
theorem q1585 : (Jvm.Cond.instantiable "KnowHouse$RuleEngine$Coming" (0 : Nat)) ∈ lw_all := lw_g (lw_at lw_m5 147 rfl) rfl
theorem q1586 : (Jvm.Cond.methodLinkNest "KnowHouse$RuleEngine" (54 : Nat) ({ cls := "KnowHouse$RuleEngine$Coming", name := "<init>", desc := "()V" } : Jvm.MethodName) "KnowHouse") ∈ lw_tbl := lw_at lw_m5 148 rfl
theorem q1587 : (Jvm.Cond.instanceMethod ({ cls := "KnowHouse$RuleEngine$Coming", name := "<init>", desc := "()V" } : Jvm.MethodName)) ∈ lw_all := lw_g (lw_at lw_m5 149 rfl) rfl
theorem q1588 : (Jvm.Cond.code ({ cls := "KnowHouse$RuleEngine$Coming", name := "<init>", desc := "()V" } : Jvm.MethodName) prog_59_method_1_code (1 : Nat) (Option.none : Option Jvm.ClassFile.FieldType)) ∈ lw_all := lw_g (lw_at lw_m5 150 rfl) rfl
theorem q1589 : (Jvm.Cond.methodLinkNest "KnowHouse$RuleEngine$Coming" (1 : Nat) ({ cls := "KnowHouse$RuleEngine$Found", name := "<init>", desc := "()V" } : Jvm.MethodName) "KnowHouse") ∈ lw_tbl := lw_at lw_m5 151 rfl
theorem q1590 : (Jvm.Cond.instanceMethod ({ cls := "KnowHouse$RuleEngine$Found", name := "<init>", desc := "()V" } : Jvm.MethodName)) ∈ lw_all := lw_g (lw_at lw_m5 152 rfl) rfl
theorem q1591 : (Jvm.Cond.code ({ cls := "KnowHouse$RuleEngine$Found", name := "<init>", desc := "()V" } : Jvm.MethodName) prog_61_method_1_code (1 : Nat) (Option.none : Option Jvm.ClassFile.FieldType)) ∈ lw_all := lw_g (lw_at lw_m5 153 rfl) rfl
theorem q1592 : (Jvm.Cond.methodLink "KnowHouse$RuleEngine$Found" (1 : Nat) ({ cls := "java/lang/Object", name := "<init>", desc := "()V" } : Jvm.MethodName)) ∈ lw_all := lw_g (lw_at lw_m5 154 rfl) rfl
theorem q1594 : (Jvm.Cond.classLink "KnowHouse$RuleEngine" (59 : Nat) "KnowHouse$RuleEngine$Counting") ∈ lw_all := lw_g (lw_at lw_m5 156 rfl) rfl
theorem q1595 : (Jvm.Cond.instantiable "KnowHouse$RuleEngine$Counting" (0 : Nat)) ∈ lw_all := lw_g (lw_at lw_m5 157 rfl) rfl
theorem q1596 : (Jvm.Cond.methodLinkNest "KnowHouse$RuleEngine" (61 : Nat) ({ cls := "KnowHouse$RuleEngine$Counting", name := "<init>", desc := "()V" } : Jvm.MethodName) "KnowHouse") ∈ lw_tbl := lw_at lw_m5 158 rfl
theorem q1597 : (Jvm.Cond.instanceMethod ({ cls := "KnowHouse$RuleEngine$Counting", name := "<init>", desc := "()V" } : Jvm.MethodName)) ∈ lw_all := lw_g (lw_at lw_m5 159 rfl) rfl
theorem q1598 : (Jvm.Cond.code ({ cls := "KnowHouse$RuleEngine$Counting", name := "<init>", desc := "()V" } : Jvm.MethodName) prog_60_method_1_code (1 : Nat) (Option.none : Option Jvm.ClassFile.FieldType)) ∈ lw_all := lw_g (lw_at lw_m5 160 rfl) rfl
theorem q1599 : (Jvm.Cond.methodLinkNest "KnowHouse$RuleEngine$Counting" (1 : Nat) ({ cls := "KnowHouse$RuleEngine$Found", name := "<init>", desc := "()V" } : Jvm.MethodName) "KnowHouse") ∈ lw_tbl := lw_at lw_m5 161 rfl
theorem q1601 : (Jvm.Cond.classLink "KnowHouse$RuleEngine" (65 : Nat) "KnowHouse$RuleEngine$Gathering") ∈ lw_all := lw_g (lw_at lw_m5 163 rfl) rfl
theorem q1602 : (Jvm.Cond.instantiable "KnowHouse$RuleEngine$Gathering" (0 : Nat)) ∈ lw_all := lw_g (lw_at lw_m5 164 rfl) rfl
theorem q1603 : (Jvm.Cond.methodLinkNest "KnowHouse$RuleEngine" (67 : Nat) ({ cls := "KnowHouse$RuleEngine$Gathering", name := "<init>", desc := "()V" } : Jvm.MethodName) "KnowHouse") ∈ lw_tbl := lw_at lw_m5 165 rfl
theorem q1604 : (Jvm.Cond.instanceMethod ({ cls := "KnowHouse$RuleEngine$Gathering", name := "<init>", desc := "()V" } : Jvm.MethodName)) ∈ lw_all := lw_g (lw_at lw_m5 166 rfl) rfl
theorem q1605 : (Jvm.Cond.code ({ cls := "KnowHouse$RuleEngine$Gathering", name := "<init>", desc := "()V" } : Jvm.MethodName) prog_62_method_1_code (1 : Nat) (Option.none : Option Jvm.ClassFile.FieldType)) ∈ lw_all := lw_g (lw_at lw_m5 167 rfl) rfl
theorem q1606 : (Jvm.Cond.methodLinkNest "KnowHouse$RuleEngine$Gathering" (3 : Nat) ({ cls := "KnowHouse$RuleEngine$Found", name := "<init>", desc := "()V" } : Jvm.MethodName) "KnowHouse") ∈ lw_tbl := lw_at lw_m5 168 rfl
theorem q1608 : (Jvm.Cond.fieldLink "KnowHouse$RuleEngine" (10 : Nat) "KnowHouse$RuleEngine" "said" "Ljava/util/BitSet;") ∈ lw_all := lw_g (lw_at lw_m5 170 rfl) rfl
theorem q1609 : (Jvm.Cond.fieldLink "KnowHouse$RuleEngine" (19 : Nat) "KnowHouse$RuleEngine" "rules" "Ljava/util/ArrayList;") ∈ lw_all := lw_g (lw_at lw_m5 171 rfl) rfl
theorem q1610 : (Jvm.Cond.fieldLink "KnowHouse$RuleEngine" (23 : Nat) "KnowHouse$RuleEngine" "strata" "[I") ∈ lw_all := lw_g (lw_at lw_m5 172 rfl) rfl
theorem q1611 : (Jvm.Cond.fieldLink "KnowHouse$RuleEngine" (27 : Nat) "KnowHouse$RuleEngine" "needs" "[I") ∈ lw_all := lw_g (lw_at lw_m5 173 rfl) rfl
theorem q1612 : (Jvm.Cond.fieldLink "KnowHouse$RuleEngine" (30 : Nat) "KnowHouse$RuleEngine" "safe" "[Z") ∈ lw_all := lw_g (lw_at lw_m5 174 rfl) rfl
theorem q1613 : (Jvm.Cond.fieldLink "KnowHouse$RuleEngine" (167 : Nat) "KnowHouse$RuleEngine" "circle" "I") ∈ lw_all := lw_g (lw_at lw_m5 175 rfl) rfl
theorem q1614 : (Jvm.Cond.fieldLink "KnowHouse$RuleEngine" (107 : Nat) "KnowHouse$RuleEngine" "known" "Z") ∈ lw_all := lw_g (lw_at lw_m5 176 rfl) rfl
theorem q1615 : (Jvm.Cond.fieldLink "KnowHouse$RuleEngine" (34 : Nat) "KnowHouse$RuleEngine" "holds" "Ljava/util/BitSet;") ∈ lw_all := lw_g (lw_at lw_m5 177 rfl) rfl
theorem q1616 : (Jvm.Cond.fieldLink "KnowHouse$RuleEngine" (37 : Nat) "KnowHouse$RuleEngine" "rounds" "[I") ∈ lw_all := lw_g (lw_at lw_m5 178 rfl) rfl
theorem q1617 : (Jvm.Cond.fieldLink "KnowHouse$RuleEngine" (40 : Nat) "KnowHouse$RuleEngine" "counts" "[I") ∈ lw_all := lw_g (lw_at lw_m5 179 rfl) rfl
theorem q1618 : (Jvm.Cond.fieldLinkNest "KnowHouse$RuleEngine$Counting" (7 : Nat) "KnowHouse$RuleEngine" "counts" "[I" "KnowHouse") ∈ lw_tbl := lw_at lw_m5 180 rfl
theorem q1619 : (Jvm.Cond.fieldLink "KnowHouse$RuleEngine" (231 : Nat) "KnowHouse$RuleEngine" "roundCount" "I") ∈ lw_all := lw_g (lw_at lw_m5 181 rfl) rfl
theorem q1620 : (Jvm.Cond.fieldLink "KnowHouse$RuleEngine" (43 : Nat) "KnowHouse$RuleEngine" "last" "Ljava/util/BitSet;") ∈ lw_all := lw_g (lw_at lw_m5 182 rfl) rfl
theorem q1621 : (Jvm.Cond.fieldLink "KnowHouse$RuleEngine" (46 : Nat) "KnowHouse$RuleEngine" "next" "Ljava/util/BitSet;") ∈ lw_all := lw_g (lw_at lw_m5 183 rfl) rfl
theorem q1622 : (Jvm.Cond.fieldLink "KnowHouse$RuleEngine" (49 : Nat) "KnowHouse$RuleEngine" "values" "[I") ∈ lw_all := lw_g (lw_at lw_m5 184 rfl) rfl
theorem q1623 : (Jvm.Cond.fieldLink "KnowHouse$RuleEngine" (55 : Nat) "KnowHouse$RuleEngine" "coming" "LKnowHouse$RuleEngine$Found;") ∈ lw_all := lw_g (lw_at lw_m5 185 rfl) rfl
theorem q1624 : (Jvm.Cond.fieldLink "KnowHouse$RuleEngine" (62 : Nat) "KnowHouse$RuleEngine" "counting" "LKnowHouse$RuleEngine$Found;") ∈ lw_all := lw_g (lw_at lw_m5 186 rfl) rfl
theorem q1625 : (Jvm.Cond.fieldLink "KnowHouse$RuleEngine" (68 : Nat) "KnowHouse$RuleEngine" "gathering" "LKnowHouse$RuleEngine$Found;") ∈ lw_all := lw_g (lw_at lw_m5 187 rfl) rfl
theorem q1626 : (Jvm.Cond.fieldLink "KnowHouse$RuleEngine" (71 : Nat) "KnowHouse$RuleEngine" "together" "[I") ∈ lw_all := lw_g (lw_at lw_m5 188 rfl) rfl
theorem q1627 : (Jvm.Cond.fieldLinkNest "KnowHouse$RuleEngine$Gathering" (32 : Nat) "KnowHouse$RuleEngine" "together" "[I" "KnowHouse") ∈ lw_tbl := lw_at lw_m5 189 rfl
theorem q1628 : (Jvm.Cond.fieldLink "KnowHouse$RuleEngine" (74 : Nat) "KnowHouse$RuleEngine" "held" "[I") ∈ lw_all := lw_g (lw_at lw_m5 190 rfl) rfl
theorem q1629 : (Jvm.Cond.fieldLink "KnowHouse$RuleEngine" (240 : Nat) "KnowHouse$RuleEngine" "work" "J") ∈ lw_all := lw_g (lw_at lw_m5 191 rfl) rfl
theorem q1630 : (Jvm.Cond.fieldLink "KnowHouse$RuleEngine" (237 : Nat) "KnowHouse$RuleEngine" "large" "Z") ∈ lw_all := lw_g (lw_at lw_m5 192 rfl) rfl
theorem q1808 : (Jvm.Cond.instanceMethod ({ cls := "java/lang/Record", name := "<init>", desc := "()V" } : Jvm.MethodName)) ∈ lw_all := lw_g (lw_at lw_m6 130 rfl) rfl
theorem q1809 : (Jvm.Cond.code ({ cls := "java/lang/Record", name := "<init>", desc := "()V" } : Jvm.MethodName) prog_108_method_1_code (1 : Nat) (Option.none : Option Jvm.ClassFile.FieldType)) ∈ lw_all := lw_g (lw_at lw_m6 131 rfl) rfl
theorem q1810 : (Jvm.Cond.methodLink "java/lang/Record" (1 : Nat) ({ cls := "java/lang/Object", name := "<init>", desc := "()V" } : Jvm.MethodName)) ∈ lw_all := lw_g (lw_at lw_m6 132 rfl) rfl
theorem q2859 : (Jvm.Cond.methodLink "KnowHouse$RuleEngine" (88 : Nat) ({ cls := "KnowHouse$RuleEngine", name := "isFact", desc := "(III)Z" } : Jvm.MethodName)) ∈ lw_all := lw_g (lw_at lw_m10 221 rfl) rfl
theorem q2860 : (Jvm.Cond.static ({ cls := "KnowHouse$RuleEngine", name := "isFact", desc := "(III)Z" } : Jvm.MethodName)) ∈ lw_all := lw_g (lw_at lw_m10 222 rfl) rfl
theorem q2861 : (Jvm.Cond.code ({ cls := "KnowHouse$RuleEngine", name := "isFact", desc := "(III)Z" } : Jvm.MethodName) prog_58_method_5_code (3 : Nat) (Option.some Jvm.ClassFile.FieldType.boolean)) ∈ lw_all := lw_g (lw_at lw_m10 223 rfl) rfl
theorem q2862 : (Jvm.Cond.methodLink "KnowHouse$RuleEngine" (77 : Nat) ({ cls := "KnowHouse$RuleEngine", name := "isName", desc := "(I)Z" } : Jvm.MethodName)) ∈ lw_all := lw_g (lw_at lw_m10 224 rfl) rfl
theorem q2863 : (Jvm.Cond.static ({ cls := "KnowHouse$RuleEngine", name := "isName", desc := "(I)Z" } : Jvm.MethodName)) ∈ lw_all := lw_g (lw_at lw_m10 225 rfl) rfl
theorem q2864 : (Jvm.Cond.code ({ cls := "KnowHouse$RuleEngine", name := "isName", desc := "(I)Z" } : Jvm.MethodName) prog_58_method_2_code (1 : Nat) (Option.some Jvm.ClassFile.FieldType.boolean)) ∈ lw_all := lw_g (lw_at lw_m10 226 rfl) rfl
theorem q2865 : (Jvm.Cond.methodLink "KnowHouse$RuleEngine" (81 : Nat) ({ cls := "KnowHouse$RuleEngine", name := "isNumber", desc := "(I)Z" } : Jvm.MethodName)) ∈ lw_all := lw_g (lw_at lw_m10 227 rfl) rfl
theorem q2866 : (Jvm.Cond.static ({ cls := "KnowHouse$RuleEngine", name := "isNumber", desc := "(I)Z" } : Jvm.MethodName)) ∈ lw_all := lw_g (lw_at lw_m10 228 rfl) rfl
theorem q2867 : (Jvm.Cond.code ({ cls := "KnowHouse$RuleEngine", name := "isNumber", desc := "(I)Z" } : Jvm.MethodName) prog_58_method_3_code (1 : Nat) (Option.some Jvm.ClassFile.FieldType.boolean)) ∈ lw_all := lw_g (lw_at lw_m10 229 rfl) rfl
theorem q2868 : (Jvm.Cond.methodLink "KnowHouse$RuleEngine" (92 : Nat) ({ cls := "KnowHouse$RuleEngine", name := "code", desc := "(III)I" } : Jvm.MethodName)) ∈ lw_all := lw_g (lw_at lw_m10 230 rfl) rfl
theorem q2869 : (Jvm.Cond.static ({ cls := "KnowHouse$RuleEngine", name := "code", desc := "(III)I" } : Jvm.MethodName)) ∈ lw_all := lw_g (lw_at lw_m10 231 rfl) rfl
theorem q2870 : (Jvm.Cond.code ({ cls := "KnowHouse$RuleEngine", name := "code", desc := "(III)I" } : Jvm.MethodName) prog_58_method_6_code (3 : Nat) (Option.some Jvm.ClassFile.FieldType.int)) ∈ lw_all := lw_g (lw_at lw_m10 232 rfl) rfl
theorem q2871 : (Jvm.Cond.methodLink "KnowHouse$RuleEngine" (96 : Nat) ({ cls := "KnowHouse$RuleEngine", name := "change", desc := "(IZ)I" } : Jvm.MethodName)) ∈ lw_all := lw_g (lw_at lw_m10 233 rfl) rfl
theorem q2873 : (Jvm.Cond.instanceMethod ({ cls := "KnowHouse$RuleEngine", name := "change", desc := "(IZ)I" } : Jvm.MethodName)) ∈ lw_all := lw_g (lw_at lw_m10 235 rfl) rfl
theorem q2874 : (Jvm.Cond.code ({ cls := "KnowHouse$RuleEngine", name := "change", desc := "(IZ)I" } : Jvm.MethodName) prog_58_method_10_code (3 : Nat) (Option.some Jvm.ClassFile.FieldType.int)) ∈ lw_all := lw_g (lw_at lw_m10 236 rfl) rfl
theorem q2875 : (Jvm.Cond.methodLink "KnowHouse$RuleEngine" (100 : Nat) ({ cls := "java/util/BitSet", name := "get", desc := "(I)Z" } : Jvm.MethodName)) ∈ lw_all := lw_g (lw_at lw_m10 237 rfl) rfl
theorem q2885 : (Jvm.Cond.methodLink "KnowHouse$RuleEngine" (103 : Nat) ({ cls := "java/util/BitSet", name := "set", desc := "(IZ)V" } : Jvm.MethodName)) ∈ lw_all := lw_g (lw_at lw_m11 7 rfl) rfl
theorem q3715 : (Jvm.Cond.methodLink "KnowHouse$RuleEngine" (271 : Nat) ({ cls := "KnowHouse$RuleEngine", name := "find", desc := "()V" } : Jvm.MethodName)) ∈ lw_all := lw_g (lw_at lw_m14 117 rfl) rfl
theorem q3717 : (Jvm.Cond.instanceMethod ({ cls := "KnowHouse$RuleEngine", name := "find", desc := "()V" } : Jvm.MethodName)) ∈ lw_all := lw_g (lw_at lw_m14 119 rfl) rfl
theorem q3718 : (Jvm.Cond.code ({ cls := "KnowHouse$RuleEngine", name := "find", desc := "()V" } : Jvm.MethodName) prog_58_method_29_code (2 : Nat) (Option.none : Option Jvm.ClassFile.FieldType)) ∈ lw_all := lw_g (lw_at lw_m14 120 rfl) rfl
theorem q3719 : (Jvm.Cond.methodLink "KnowHouse$RuleEngine" (224 : Nat) ({ cls := "java/util/BitSet", name := "clear", desc := "()V" } : Jvm.MethodName)) ∈ lw_all := lw_g (lw_at lw_m14 121 rfl) rfl
theorem q3723 : (Jvm.Cond.methodLink "KnowHouse$RuleEngine" (227 : Nat) ({ cls := "java/util/BitSet", name := "or", desc := "(Ljava/util/BitSet;)V" } : Jvm.MethodName)) ∈ lw_all := lw_g (lw_at lw_m14 125 rfl) rfl
theorem q3729 : (Jvm.Cond.methodLink "KnowHouse$RuleEngine" (84 : Nat) ({ cls := "java/util/ArrayList", name := "size", desc := "()I" } : Jvm.MethodName)) ∈ lw_all := lw_g (lw_at lw_m14 131 rfl) rfl
theorem q3730 : (Jvm.Cond.methodLink "KnowHouse$RuleEngine" (128 : Nat) ({ cls := "java/util/ArrayList", name := "get", desc := "(I)Ljava/lang/Object;" } : Jvm.MethodName)) ∈ lw_all := lw_g (lw_at lw_m14 132 rfl) rfl
theorem q3731 : (Jvm.Cond.classLink "KnowHouse$RuleEngine" (114 : Nat) "KnowHouse$RuleEngine$Rule") ∈ lw_all := lw_g (lw_at lw_m14 133 rfl) rfl
theorem q3732 : (Jvm.Cond.methodLink "KnowHouse$RuleEngine" (150 : Nat) ({ cls := "KnowHouse$RuleEngine$Rule", name := "isSafe", desc := "()Z" } : Jvm.MethodName)) ∈ lw_all := lw_g (lw_at lw_m14 134 rfl) rfl
theorem q3733 : (Jvm.Cond.instanceMethod ({ cls := "KnowHouse$RuleEngine$Rule", name := "isSafe", desc := "()Z" } : Jvm.MethodName)) ∈ lw_all := lw_g (lw_at lw_m14 135 rfl) rfl
theorem q3734 : (Jvm.Cond.selects "KnowHouse$RuleEngine$Rule" ({ cls := "KnowHouse$RuleEngine$Rule", name := "isSafe", desc := "()Z" } : Jvm.MethodName) ({ cls := "KnowHouse$RuleEngine$Rule", name := "isSafe", desc := "()Z" } : Jvm.MethodName)) ∈ lw_all := lw_g (lw_at lw_m14 136 rfl) rfl
theorem q3735 : (Jvm.Cond.code ({ cls := "KnowHouse$RuleEngine$Rule", name := "isSafe", desc := "()Z" } : Jvm.MethodName) prog_64_method_3_code (3 : Nat) (Option.some Jvm.ClassFile.FieldType.boolean)) ∈ lw_all := lw_g (lw_at lw_m14 137 rfl) rfl
theorem q3736 : (Jvm.Cond.methodLink "KnowHouse$RuleEngine$Rule" (39 : Nat) ({ cls := "KnowHouse$RuleEngine$Part", name := "x", desc := "()I" } : Jvm.MethodName)) ∈ lw_all := lw_g (lw_at lw_m14 138 rfl) rfl
theorem q3737 : (Jvm.Cond.instanceMethod ({ cls := "KnowHouse$RuleEngine$Part", name := "x", desc := "()I" } : Jvm.MethodName)) ∈ lw_all := lw_g (lw_at lw_m14 139 rfl) rfl
theorem q3738 : (Jvm.Cond.selects "KnowHouse$RuleEngine$Part" ({ cls := "KnowHouse$RuleEngine$Part", name := "x", desc := "()I" } : Jvm.MethodName) ({ cls := "KnowHouse$RuleEngine$Part", name := "x", desc := "()I" } : Jvm.MethodName)) ∈ lw_all := lw_g (lw_at lw_m14 140 rfl) rfl
theorem q3739 : (Jvm.Cond.code ({ cls := "KnowHouse$RuleEngine$Part", name := "x", desc := "()I" } : Jvm.MethodName) prog_63_method_7_code (1 : Nat) (Option.some Jvm.ClassFile.FieldType.int)) ∈ lw_all := lw_g (lw_at lw_m14 141 rfl) rfl
theorem q3740 : (Jvm.Cond.methodLink "KnowHouse$RuleEngine$Rule" (45 : Nat) ({ cls := "KnowHouse$RuleEngine$Rule", name := "binds", desc := "(I)Z" } : Jvm.MethodName)) ∈ lw_all := lw_g (lw_at lw_m14 142 rfl) rfl
theorem q3742 : (Jvm.Cond.instanceMethod ({ cls := "KnowHouse$RuleEngine$Rule", name := "binds", desc := "(I)Z" } : Jvm.MethodName)) ∈ lw_all := lw_g (lw_at lw_m14 144 rfl) rfl
theorem q3743 : (Jvm.Cond.instantiable "KnowHouse$RuleEngine$Rule" (4 : Nat)) ∈ lw_all := lw_g (lw_at lw_m14 145 rfl) rfl
theorem q3744 : (Jvm.Cond.code ({ cls := "KnowHouse$RuleEngine$Rule", name := "binds", desc := "(I)Z" } : Jvm.MethodName) prog_64_method_2_code (4 : Nat) (Option.some Jvm.ClassFile.FieldType.boolean)) ∈ lw_all := lw_g (lw_at lw_m14 146 rfl) rfl
theorem q3745 : (Jvm.Cond.methodLink "KnowHouse$RuleEngine$Rule" (26 : Nat) ({ cls := "java/util/ArrayList", name := "size", desc := "()I" } : Jvm.MethodName)) ∈ lw_all := lw_g (lw_at lw_m14 147 rfl) rfl
theorem q3746 : (Jvm.Cond.methodLink "KnowHouse$RuleEngine$Rule" (30 : Nat) ({ cls := "java/util/ArrayList", name := "get", desc := "(I)Ljava/lang/Object;" } : Jvm.MethodName)) ∈ lw_all := lw_g (lw_at lw_m14 148 rfl) rfl
theorem q3747 : (Jvm.Cond.classLink "KnowHouse$RuleEngine$Rule" (34 : Nat) "KnowHouse$RuleEngine$Part") ∈ lw_all := lw_g (lw_at lw_m14 149 rfl) rfl
theorem q3748 : (Jvm.Cond.methodLink "KnowHouse$RuleEngine$Rule" (36 : Nat) ({ cls := "KnowHouse$RuleEngine$Part", name := "sort", desc := "()I" } : Jvm.MethodName)) ∈ lw_all := lw_g (lw_at lw_m14 150 rfl) rfl
theorem q3749 : (Jvm.Cond.instanceMethod ({ cls := "KnowHouse$RuleEngine$Part", name := "sort", desc := "()I" } : Jvm.MethodName)) ∈ lw_all := lw_g (lw_at lw_m14 151 rfl) rfl
theorem q3750 : (Jvm.Cond.selects "KnowHouse$RuleEngine$Part" ({ cls := "KnowHouse$RuleEngine$Part", name := "sort", desc := "()I" } : Jvm.MethodName) ({ cls := "KnowHouse$RuleEngine$Part", name := "sort", desc := "()I" } : Jvm.MethodName)) ∈ lw_all := lw_g (lw_at lw_m14 152 rfl) rfl
theorem q3751 : (Jvm.Cond.code ({ cls := "KnowHouse$RuleEngine$Part", name := "sort", desc := "()I" } : Jvm.MethodName) prog_63_method_5_code (1 : Nat) (Option.some Jvm.ClassFile.FieldType.int)) ∈ lw_all := lw_g (lw_at lw_m14 153 rfl) rfl
theorem q3752 : (Jvm.Cond.methodLink "KnowHouse$RuleEngine$Rule" (42 : Nat) ({ cls := "KnowHouse$RuleEngine$Part", name := "y", desc := "()I" } : Jvm.MethodName)) ∈ lw_all := lw_g (lw_at lw_m14 154 rfl) rfl
theorem q3753 : (Jvm.Cond.instanceMethod ({ cls := "KnowHouse$RuleEngine$Part", name := "y", desc := "()I" } : Jvm.MethodName)) ∈ lw_all := lw_g (lw_at lw_m14 155 rfl) rfl
theorem q3754 : (Jvm.Cond.selects "KnowHouse$RuleEngine$Part" ({ cls := "KnowHouse$RuleEngine$Part", name := "y", desc := "()I" } : Jvm.MethodName) ({ cls := "KnowHouse$RuleEngine$Part", name := "y", desc := "()I" } : Jvm.MethodName)) ∈ lw_all := lw_g (lw_at lw_m14 156 rfl) rfl
theorem q3755 : (Jvm.Cond.code ({ cls := "KnowHouse$RuleEngine$Part", name := "y", desc := "()I" } : Jvm.MethodName) prog_63_method_8_code (1 : Nat) (Option.some Jvm.ClassFile.FieldType.int)) ∈ lw_all := lw_g (lw_at lw_m14 157 rfl) rfl
theorem q3756 : (Jvm.Cond.methodLink "KnowHouse$RuleEngine" (234 : Nat) ({ cls := "KnowHouse$RuleEngine", name := "stratify", desc := "()V" } : Jvm.MethodName)) ∈ lw_all := lw_g (lw_at lw_m14 158 rfl) rfl
theorem q3758 : (Jvm.Cond.instanceMethod ({ cls := "KnowHouse$RuleEngine", name := "stratify", desc := "()V" } : Jvm.MethodName)) ∈ lw_all := lw_g (lw_at lw_m14 160 rfl) rfl
theorem q3759 : (Jvm.Cond.code ({ cls := "KnowHouse$RuleEngine", name := "stratify", desc := "()V" } : Jvm.MethodName) prog_58_method_19_code (7 : Nat) (Option.none : Option Jvm.ClassFile.FieldType)) ∈ lw_all := lw_g (lw_at lw_m14 161 rfl) rfl
theorem q3760 : (Jvm.Cond.methodLink "KnowHouse$RuleEngine" (164 : Nat) ({ cls := "KnowHouse$RuleEngine", name := "findNeeds", desc := "()V" } : Jvm.MethodName)) ∈ lw_all := lw_g (lw_at lw_m14 162 rfl) rfl
theorem q3762 : (Jvm.Cond.instanceMethod ({ cls := "KnowHouse$RuleEngine", name := "findNeeds", desc := "()V" } : Jvm.MethodName)) ∈ lw_all := lw_g (lw_at lw_m14 164 rfl) rfl
theorem q3763 : (Jvm.Cond.code ({ cls := "KnowHouse$RuleEngine", name := "findNeeds", desc := "()V" } : Jvm.MethodName) prog_58_method_18_code (5 : Nat) (Option.none : Option Jvm.ClassFile.FieldType)) ∈ lw_all := lw_g (lw_at lw_m14 165 rfl) rfl
theorem q3764 : (Jvm.Cond.classLink "KnowHouse$RuleEngine" (116 : Nat) "KnowHouse$RuleEngine$Part") ∈ lw_all := lw_g (lw_at lw_m14 166 rfl) rfl
theorem q3765 : (Jvm.Cond.methodLink "KnowHouse$RuleEngine" (154 : Nat) ({ cls := "KnowHouse$RuleEngine$Part", name := "sort", desc := "()I" } : Jvm.MethodName)) ∈ lw_all := lw_g (lw_at lw_m14 167 rfl) rfl
theorem q3766 : (Jvm.Cond.methodLink "KnowHouse$RuleEngine" (161 : Nat) ({ cls := "KnowHouse$RuleEngine$Part", name := "name", desc := "()I" } : Jvm.MethodName)) ∈ lw_all := lw_g (lw_at lw_m14 168 rfl) rfl
theorem q3767 : (Jvm.Cond.instanceMethod ({ cls := "KnowHouse$RuleEngine$Part", name := "name", desc := "()I" } : Jvm.MethodName)) ∈ lw_all := lw_g (lw_at lw_m14 169 rfl) rfl
theorem q3768 : (Jvm.Cond.selects "KnowHouse$RuleEngine$Part" ({ cls := "KnowHouse$RuleEngine$Part", name := "name", desc := "()I" } : Jvm.MethodName) ({ cls := "KnowHouse$RuleEngine$Part", name := "name", desc := "()I" } : Jvm.MethodName)) ∈ lw_all := lw_g (lw_at lw_m14 170 rfl) rfl
theorem q3769 : (Jvm.Cond.code ({ cls := "KnowHouse$RuleEngine$Part", name := "name", desc := "()I" } : Jvm.MethodName) prog_63_method_6_code (1 : Nat) (Option.some Jvm.ClassFile.FieldType.int)) ∈ lw_all := lw_g (lw_at lw_m14 171 rfl) rfl
theorem q3770 : (Jvm.Cond.methodLink "KnowHouse$RuleEngine" (170 : Nat) ({ cls := "KnowHouse$RuleEngine$Rule", name := "isStrict", desc := "(LKnowHouse$RuleEngine$Part;)Z" } : Jvm.MethodName)) ∈ lw_all := lw_g (lw_at lw_m14 172 rfl) rfl
theorem q3771 : (Jvm.Cond.instanceMethod ({ cls := "KnowHouse$RuleEngine$Rule", name := "isStrict", desc := "(LKnowHouse$RuleEngine$Part;)Z" } : Jvm.MethodName)) ∈ lw_all := lw_g (lw_at lw_m14 173 rfl) rfl
theorem q3772 : (Jvm.Cond.selects "KnowHouse$RuleEngine$Rule" ({ cls := "KnowHouse$RuleEngine$Rule", name := "isStrict", desc := "(LKnowHouse$RuleEngine$Part;)Z" } : Jvm.MethodName) ({ cls := "KnowHouse$RuleEngine$Rule", name := "isStrict", desc := "(LKnowHouse$RuleEngine$Part;)Z" } : Jvm.MethodName)) ∈ lw_all := lw_g (lw_at lw_m14 174 rfl) rfl
theorem q3773 : (Jvm.Cond.code ({ cls := "KnowHouse$RuleEngine$Rule", name := "isStrict", desc := "(LKnowHouse$RuleEngine$Part;)Z" } : Jvm.MethodName) prog_64_method_4_code (2 : Nat) (Option.some Jvm.ClassFile.FieldType.boolean)) ∈ lw_all := lw_g (lw_at lw_m14 175 rfl) rfl
theorem q3774 : (Jvm.Cond.methodLink "KnowHouse$RuleEngine" (201 : Nat) ({ cls := "java/util/BitSet", name := "nextSetBit", desc := "(I)I" } : Jvm.MethodName)) ∈ lw_all := lw_g (lw_at lw_m14 176 rfl) rfl
theorem q3782 : (Jvm.Cond.methodLink "KnowHouse$RuleEngine" (244 : Nat) ({ cls := "KnowHouse$RuleEngine", name := "goThrough", desc := "(I)V" } : Jvm.MethodName)) ∈ lw_all := lw_g (lw_at lw_m14 184 rfl) rfl
theorem q3784 : (Jvm.Cond.instanceMethod ({ cls := "KnowHouse$RuleEngine", name := "goThrough", desc := "(I)V" } : Jvm.MethodName)) ∈ lw_all := lw_g (lw_at lw_m14 186 rfl) rfl
theorem q3785 : (Jvm.Cond.code ({ cls := "KnowHouse$RuleEngine", name := "goThrough", desc := "(I)V" } : Jvm.MethodName) prog_58_method_32_code (5 : Nat) (Option.none : Option Jvm.ClassFile.FieldType)) ∈ lw_all := lw_g (lw_at lw_m14 187 rfl) rfl
theorem q3786 : (Jvm.Cond.methodLink "KnowHouse$RuleEngine" (247 : Nat) ({ cls := "KnowHouse$RuleEngine", name := "pay", desc := "(I)V" } : Jvm.MethodName)) ∈ lw_all := lw_g (lw_at lw_m14 188 rfl) rfl
theorem q3788 : (Jvm.Cond.instanceMethod ({ cls := "KnowHouse$RuleEngine", name := "pay", desc := "(I)V" } : Jvm.MethodName)) ∈ lw_all := lw_g (lw_at lw_m14 190 rfl) rfl
theorem q3789 : (Jvm.Cond.code ({ cls := "KnowHouse$RuleEngine", name := "pay", desc := "(I)V" } : Jvm.MethodName) prog_58_method_30_code (8 : Nat) (Option.none : Option Jvm.ClassFile.FieldType)) ∈ lw_all := lw_g (lw_at lw_m14 191 rfl) rfl
theorem q3790 : (Jvm.Cond.constantLong "KnowHouse$RuleEngine" (256 : Nat) (200001 : Int64)) ∈ lw_all := lw_g (lw_at lw_m14 192 rfl) rfl
theorem q3791 : (Jvm.Cond.methodLink "KnowHouse$RuleEngine" (258 : Nat) ({ cls := "java/lang/Math", name := "min", desc := "(JJ)J" } : Jvm.MethodName)) ∈ lw_all := lw_g (lw_at lw_m14 193 rfl) rfl
theorem q3794 : (Jvm.Cond.constantLong "KnowHouse$RuleEngine" (262 : Nat) (200000 : Int64)) ∈ lw_all := lw_g (lw_at lw_m14 196 rfl) rfl
theorem q3795 : (Jvm.Cond.methodLink "KnowHouse$RuleEngine" (264 : Nat) ({ cls := "KnowHouse$RuleEngine", name := "give", desc := "(LKnowHouse$RuleEngine$Rule;Z)V" } : Jvm.MethodName)) ∈ lw_all := lw_g (lw_at lw_m14 197 rfl) rfl
theorem q3797 : (Jvm.Cond.instanceMethod ({ cls := "KnowHouse$RuleEngine", name := "give", desc := "(LKnowHouse$RuleEngine$Rule;Z)V" } : Jvm.MethodName)) ∈ lw_all := lw_g (lw_at lw_m14 199 rfl) rfl
theorem q3798 : (Jvm.Cond.code ({ cls := "KnowHouse$RuleEngine", name := "give", desc := "(LKnowHouse$RuleEngine$Rule;Z)V" } : Jvm.MethodName) prog_58_method_28_code (4 : Nat) (Option.none : Option Jvm.ClassFile.FieldType)) ∈ lw_all := lw_g (lw_at lw_m14 200 rfl) rfl
theorem q3799 : (Jvm.Cond.methodLink "KnowHouse$RuleEngine" (217 : Nat) ({ cls := "KnowHouse$RuleEngine", name := "gather", desc := "(LKnowHouse$RuleEngine$Rule;)V" } : Jvm.MethodName)) ∈ lw_all := lw_g (lw_at lw_m14 201 rfl) rfl
theorem q3801 : (Jvm.Cond.instanceMethod ({ cls := "KnowHouse$RuleEngine", name := "gather", desc := "(LKnowHouse$RuleEngine$Rule;)V" } : Jvm.MethodName)) ∈ lw_all := lw_g (lw_at lw_m14 203 rfl) rfl
theorem q3802 : (Jvm.Cond.code ({ cls := "KnowHouse$RuleEngine", name := "gather", desc := "(LKnowHouse$RuleEngine$Rule;)V" } : Jvm.MethodName) prog_58_method_27_code (3 : Nat) (Option.none : Option Jvm.ClassFile.FieldType)) ∈ lw_all := lw_g (lw_at lw_m14 204 rfl) rfl
theorem q3803 : (Jvm.Cond.methodLink "KnowHouse$RuleEngine" (214 : Nat) ({ cls := "KnowHouse$RuleEngine", name := "free", desc := "()V" } : Jvm.MethodName)) ∈ lw_all := lw_g (lw_at lw_m14 205 rfl) rfl
theorem q3805 : (Jvm.Cond.instanceMethod ({ cls := "KnowHouse$RuleEngine", name := "free", desc := "()V" } : Jvm.MethodName)) ∈ lw_all := lw_g (lw_at lw_m14 207 rfl) rfl
theorem q3806 : (Jvm.Cond.code ({ cls := "KnowHouse$RuleEngine", name := "free", desc := "()V" } : Jvm.MethodName) prog_58_method_20_code (2 : Nat) (Option.none : Option Jvm.ClassFile.FieldType)) ∈ lw_all := lw_g (lw_at lw_m14 208 rfl) rfl
theorem q3807 : (Jvm.Cond.methodLink "KnowHouse$RuleEngine" (184 : Nat) ({ cls := "KnowHouse$RuleEngine", name := "cases", desc := "(LKnowHouse$RuleEngine;LKnowHouse$RuleEngine$Rule;IILKnowHouse$RuleEngine$Found;)V" } : Jvm.MethodName)) ∈ lw_all := lw_g (lw_at lw_m14 209 rfl) rfl
theorem q3808 : (Jvm.Cond.static ({ cls := "KnowHouse$RuleEngine", name := "cases", desc := "(LKnowHouse$RuleEngine;LKnowHouse$RuleEngine$Rule;IILKnowHouse$RuleEngine$Found;)V" } : Jvm.MethodName)) ∈ lw_all := lw_g (lw_at lw_m14 210 rfl) rfl
theorem q3809 : (Jvm.Cond.code ({ cls := "KnowHouse$RuleEngine", name := "cases", desc := "(LKnowHouse$RuleEngine;LKnowHouse$RuleEngine$Rule;IILKnowHouse$RuleEngine$Found;)V" } : Jvm.MethodName) prog_58_method_22_code (15 : Nat) (Option.none : Option Jvm.ClassFile.FieldType)) ∈ lw_all := lw_g (lw_at lw_m14 211 rfl) rfl
theorem q3810 : (Jvm.Cond.methodLink "KnowHouse$RuleEngine" (174 : Nat) ({ cls := "KnowHouse$RuleEngine", name := "passes", desc := "(LKnowHouse$RuleEngine$Rule;)Z" } : Jvm.MethodName)) ∈ lw_all := lw_g (lw_at lw_m14 212 rfl) rfl
theorem q3812 : (Jvm.Cond.instanceMethod ({ cls := "KnowHouse$RuleEngine", name := "passes", desc := "(LKnowHouse$RuleEngine$Rule;)Z" } : Jvm.MethodName)) ∈ lw_all := lw_g (lw_at lw_m14 214 rfl) rfl
theorem q3813 : (Jvm.Cond.code ({ cls := "KnowHouse$RuleEngine", name := "passes", desc := "(LKnowHouse$RuleEngine$Rule;)Z" } : Jvm.MethodName) prog_58_method_24_code (7 : Nat) (Option.some Jvm.ClassFile.FieldType.boolean)) ∈ lw_all := lw_g (lw_at lw_m14 215 rfl) rfl
theorem q3814 : (Jvm.Cond.methodLink "KnowHouse$RuleEngine" (188 : Nat) ({ cls := "KnowHouse$RuleEngine$Part", name := "x", desc := "()I" } : Jvm.MethodName)) ∈ lw_all := lw_g (lw_at lw_m14 216 rfl) rfl
theorem q3815 : (Jvm.Cond.methodLink "KnowHouse$RuleEngine" (191 : Nat) ({ cls := "KnowHouse$RuleEngine", name := "valueOf", desc := "(I)I" } : Jvm.MethodName)) ∈ lw_all := lw_g (lw_at lw_m14 217 rfl) rfl
theorem q3817 : (Jvm.Cond.instanceMethod ({ cls := "KnowHouse$RuleEngine", name := "valueOf", desc := "(I)I" } : Jvm.MethodName)) ∈ lw_all := lw_g (lw_at lw_m14 219 rfl) rfl
theorem q3818 : (Jvm.Cond.code ({ cls := "KnowHouse$RuleEngine", name := "valueOf", desc := "(I)I" } : Jvm.MethodName) prog_58_method_21_code (2 : Nat) (Option.some Jvm.ClassFile.FieldType.int)) ∈ lw_all := lw_g (lw_at lw_m14 220 rfl) rfl
theorem q3819 : (Jvm.Cond.methodLink "KnowHouse$RuleEngine" (208 : Nat) ({ cls := "KnowHouse$RuleEngine$Part", name := "y", desc := "()I" } : Jvm.MethodName)) ∈ lw_all := lw_g (lw_at lw_m14 221 rfl) rfl
theorem q3820 : (Jvm.Cond.methodLink "KnowHouse$RuleEngine" (178 : Nat) ({ cls := "KnowHouse$RuleEngine$Found", name := "take", desc := "(LKnowHouse$RuleEngine;LKnowHouse$RuleEngine$Rule;)V" } : Jvm.MethodName)) ∈ lw_all := lw_g (lw_at lw_m14 222 rfl) rfl
theorem q3821 : (Jvm.Cond.declares ({ cls := "KnowHouse$RuleEngine$Found", name := "take", desc := "(LKnowHouse$RuleEngine;LKnowHouse$RuleEngine$Rule;)V" } : Jvm.MethodName)) ∈ lw_tbl := lw_at lw_m14 223 rfl
theorem q3822 : (Jvm.Cond.sameMethod "KnowHouse$RuleEngine$Found" "KnowHouse$RuleEngine$Found" "take" "(LKnowHouse$RuleEngine;LKnowHouse$RuleEngine$Rule;)V") ∈ lw_all := lw_g (lw_at lw_m14 224 rfl) rfl
theorem q3823 : (Jvm.Cond.selects "KnowHouse$RuleEngine$Coming" ({ cls := "KnowHouse$RuleEngine$Found", name := "take", desc := "(LKnowHouse$RuleEngine;LKnowHouse$RuleEngine$Rule;)V" } : Jvm.MethodName) ({ cls := "KnowHouse$RuleEngine$Coming", name := "take", desc := "(LKnowHouse$RuleEngine;LKnowHouse$RuleEngine$Rule;)V" } : Jvm.MethodName)) ∈ lw_all := lw_g (lw_at lw_m14 225 rfl) rfl
theorem q3824 : (Jvm.Cond.instanceMethod ({ cls := "KnowHouse$RuleEngine$Coming", name := "take", desc := "(LKnowHouse$RuleEngine;LKnowHouse$RuleEngine$Rule;)V" } : Jvm.MethodName)) ∈ lw_all := lw_g (lw_at lw_m14 226 rfl) rfl
theorem q3825 : (Jvm.Cond.code ({ cls := "KnowHouse$RuleEngine$Coming", name := "take", desc := "(LKnowHouse$RuleEngine;LKnowHouse$RuleEngine$Rule;)V" } : Jvm.MethodName) prog_59_method_2_code (3 : Nat) (Option.none : Option Jvm.ClassFile.FieldType)) ∈ lw_all := lw_g (lw_at lw_m14 227 rfl) rfl
theorem q3826 : (Jvm.Cond.methodLinkNest "KnowHouse$RuleEngine$Coming" (7 : Nat) ({ cls := "KnowHouse$RuleEngine", name := "headOf", desc := "(LKnowHouse$RuleEngine$Rule;)I" } : Jvm.MethodName) "KnowHouse") ∈ lw_tbl := lw_at lw_m14 228 rfl
theorem q3828 : (Jvm.Cond.instanceMethod ({ cls := "KnowHouse$RuleEngine", name := "headOf", desc := "(LKnowHouse$RuleEngine$Rule;)I" } : Jvm.MethodName)) ∈ lw_all := lw_g (lw_at lw_m14 230 rfl) rfl
theorem q3829 : (Jvm.Cond.code ({ cls := "KnowHouse$RuleEngine", name := "headOf", desc := "(LKnowHouse$RuleEngine$Rule;)I" } : Jvm.MethodName) prog_58_method_25_code (2 : Nat) (Option.some Jvm.ClassFile.FieldType.int)) ∈ lw_all := lw_g (lw_at lw_m14 231 rfl) rfl
theorem q3830 : (Jvm.Cond.methodLinkNest "KnowHouse$RuleEngine$Coming" (13 : Nat) ({ cls := "KnowHouse$RuleEngine", name := "come", desc := "(I)V" } : Jvm.MethodName) "KnowHouse") ∈ lw_tbl := lw_at lw_m14 232 rfl
theorem q3832 : (Jvm.Cond.instanceMethod ({ cls := "KnowHouse$RuleEngine", name := "come", desc := "(I)V" } : Jvm.MethodName)) ∈ lw_all := lw_g (lw_at lw_m14 234 rfl) rfl
theorem q3833 : (Jvm.Cond.code ({ cls := "KnowHouse$RuleEngine", name := "come", desc := "(I)V" } : Jvm.MethodName) prog_58_method_26_code (2 : Nat) (Option.none : Option Jvm.ClassFile.FieldType)) ∈ lw_all := lw_g (lw_at lw_m14 235 rfl) rfl
theorem q3834 : (Jvm.Cond.methodLink "KnowHouse$RuleEngine" (211 : Nat) ({ cls := "java/util/BitSet", name := "set", desc := "(I)V" } : Jvm.MethodName)) ∈ lw_all := lw_g (lw_at lw_m14 236 rfl) rfl
theorem q3835 : (Jvm.Cond.selects "KnowHouse$RuleEngine$Counting" ({ cls := "KnowHouse$RuleEngine$Found", name := "take", desc := "(LKnowHouse$RuleEngine;LKnowHouse$RuleEngine$Rule;)V" } : Jvm.MethodName) ({ cls := "KnowHouse$RuleEngine$Counting", name := "take", desc := "(LKnowHouse$RuleEngine;LKnowHouse$RuleEngine$Rule;)V" } : Jvm.MethodName)) ∈ lw_all := lw_g (lw_at lw_m14 237 rfl) rfl
theorem q3836 : (Jvm.Cond.instanceMethod ({ cls := "KnowHouse$RuleEngine$Counting", name := "take", desc := "(LKnowHouse$RuleEngine;LKnowHouse$RuleEngine$Rule;)V" } : Jvm.MethodName)) ∈ lw_all := lw_g (lw_at lw_m14 238 rfl) rfl
theorem q3837 : (Jvm.Cond.code ({ cls := "KnowHouse$RuleEngine$Counting", name := "take", desc := "(LKnowHouse$RuleEngine;LKnowHouse$RuleEngine$Rule;)V" } : Jvm.MethodName) prog_60_method_2_code (3 : Nat) (Option.none : Option Jvm.ClassFile.FieldType)) ∈ lw_all := lw_g (lw_at lw_m14 239 rfl) rfl
theorem q3838 : (Jvm.Cond.methodLinkNest "KnowHouse$RuleEngine$Counting" (13 : Nat) ({ cls := "KnowHouse$RuleEngine", name := "headOf", desc := "(LKnowHouse$RuleEngine$Rule;)I" } : Jvm.MethodName) "KnowHouse") ∈ lw_tbl := lw_at lw_m15 0 rfl
theorem q3839 : (Jvm.Cond.selects "KnowHouse$RuleEngine$Gathering" ({ cls := "KnowHouse$RuleEngine$Found", name := "take", desc := "(LKnowHouse$RuleEngine;LKnowHouse$RuleEngine$Rule;)V" } : Jvm.MethodName) ({ cls := "KnowHouse$RuleEngine$Gathering", name := "take", desc := "(LKnowHouse$RuleEngine;LKnowHouse$RuleEngine$Rule;)V" } : Jvm.MethodName)) ∈ lw_all := lw_g (lw_at lw_m15 1 rfl) rfl
theorem q3840 : (Jvm.Cond.instanceMethod ({ cls := "KnowHouse$RuleEngine$Gathering", name := "take", desc := "(LKnowHouse$RuleEngine;LKnowHouse$RuleEngine$Rule;)V" } : Jvm.MethodName)) ∈ lw_all := lw_g (lw_at lw_m15 2 rfl) rfl
theorem q3841 : (Jvm.Cond.code ({ cls := "KnowHouse$RuleEngine$Gathering", name := "take", desc := "(LKnowHouse$RuleEngine;LKnowHouse$RuleEngine$Rule;)V" } : Jvm.MethodName) prog_62_method_2_code (6 : Nat) (Option.none : Option Jvm.ClassFile.FieldType)) ∈ lw_all := lw_g (lw_at lw_m15 3 rfl) rfl
theorem q3842 : (Jvm.Cond.methodLink "KnowHouse$RuleEngine$Gathering" (15 : Nat) ({ cls := "KnowHouse$RuleEngine$Part", name := "x", desc := "()I" } : Jvm.MethodName)) ∈ lw_all := lw_g (lw_at lw_m15 4 rfl) rfl
theorem q3843 : (Jvm.Cond.methodLinkNest "KnowHouse$RuleEngine$Gathering" (21 : Nat) ({ cls := "KnowHouse$RuleEngine", name := "valueOf", desc := "(I)I" } : Jvm.MethodName) "KnowHouse") ∈ lw_tbl := lw_at lw_m15 5 rfl
theorem q3844 : (Jvm.Cond.methodLink "KnowHouse$RuleEngine$Gathering" (36 : Nat) ({ cls := "java/lang/Math", name := "min", desc := "(II)I" } : Jvm.MethodName)) ∈ lw_all := lw_g (lw_at lw_m15 6 rfl) rfl
theorem q3845 : (Jvm.Cond.methodLink "KnowHouse$RuleEngine$Gathering" (42 : Nat) ({ cls := "java/lang/Math", name := "max", desc := "(II)I" } : Jvm.MethodName)) ∈ lw_all := lw_g (lw_at lw_m15 7 rfl) rfl
theorem q3846 : (Jvm.Cond.methodLink "KnowHouse$RuleEngine" (195 : Nat) ({ cls := "java/lang/Math", name := "max", desc := "(II)I" } : Jvm.MethodName)) ∈ lw_all := lw_g (lw_at lw_m15 8 rfl) rfl
theorem q3847 : (Jvm.Cond.methodLink "KnowHouse$RuleEngine" (204 : Nat) ({ cls := "KnowHouse$RuleEngine", name := "bind", desc := "(II)Z" } : Jvm.MethodName)) ∈ lw_all := lw_g (lw_at lw_m15 9 rfl) rfl
theorem q3849 : (Jvm.Cond.instanceMethod ({ cls := "KnowHouse$RuleEngine", name := "bind", desc := "(II)Z" } : Jvm.MethodName)) ∈ lw_all := lw_g (lw_at lw_m15 11 rfl) rfl
theorem q3850 : (Jvm.Cond.code ({ cls := "KnowHouse$RuleEngine", name := "bind", desc := "(II)Z" } : Jvm.MethodName) prog_58_method_23_code (3 : Nat) (Option.some Jvm.ClassFile.FieldType.boolean)) ∈ lw_all := lw_g (lw_at lw_m15 12 rfl) rfl
theorem q3851 : (Jvm.Cond.methodLink "KnowHouse$RuleEngine" (221 : Nat) ({ cls := "KnowHouse$RuleEngine", name := "come", desc := "(I)V" } : Jvm.MethodName)) ∈ lw_all := lw_g (lw_at lw_m15 13 rfl) rfl
theorem q3852 : (Jvm.Cond.methodLink "KnowHouse$RuleEngine" (268 : Nat) ({ cls := "java/util/BitSet", name := "isEmpty", desc := "()Z" } : Jvm.MethodName)) ∈ lw_all := lw_g (lw_at lw_m15 14 rfl) rfl
theorem q3856 : (Jvm.Cond.methodLink "KnowHouse$RuleEngine" (250 : Nat) ({ cls := "KnowHouse$RuleEngine", name := "onlySaid", desc := "()V" } : Jvm.MethodName)) ∈ lw_all := lw_g (lw_at lw_m15 18 rfl) rfl
theorem q3858 : (Jvm.Cond.instanceMethod ({ cls := "KnowHouse$RuleEngine", name := "onlySaid", desc := "()V" } : Jvm.MethodName)) ∈ lw_all := lw_g (lw_at lw_m15 20 rfl) rfl
theorem q3859 : (Jvm.Cond.code ({ cls := "KnowHouse$RuleEngine", name := "onlySaid", desc := "()V" } : Jvm.MethodName) prog_58_method_31_code (2 : Nat) (Option.none : Option Jvm.ClassFile.FieldType)) ∈ lw_all := lw_g (lw_at lw_m15 21 rfl) rfl
theorem q3860 : (Jvm.Cond.methodLink "KnowHouse$RuleEngine" (253 : Nat) ({ cls := "KnowHouse$RuleEngine", name := "count", desc := "(LKnowHouse$RuleEngine$Rule;)V" } : Jvm.MethodName)) ∈ lw_all := lw_g (lw_at lw_m15 22 rfl) rfl
theorem q3862 : (Jvm.Cond.instanceMethod ({ cls := "KnowHouse$RuleEngine", name := "count", desc := "(LKnowHouse$RuleEngine$Rule;)V" } : Jvm.MethodName)) ∈ lw_all := lw_g (lw_at lw_m15 24 rfl) rfl
theorem q3863 : (Jvm.Cond.code ({ cls := "KnowHouse$RuleEngine", name := "count", desc := "(LKnowHouse$RuleEngine$Rule;)V" } : Jvm.MethodName) prog_58_method_33_code (3 : Nat) (Option.none : Option Jvm.ClassFile.FieldType)) ∈ lw_all := lw_g (lw_at lw_m15 25 rfl) rfl
theorem q5317 : (Jvm.Cond.methodLink "KnowHouse$RuleEngine" (111 : Nat) ({ cls := "KnowHouse$RuleEngine", name := "isItem", desc := "(I)Z" } : Jvm.MethodName)) ∈ lw_all := lw_g (lw_at lw_m21 39 rfl) rfl
theorem q5318 : (Jvm.Cond.static ({ cls := "KnowHouse$RuleEngine", name := "isItem", desc := "(I)Z" } : Jvm.MethodName)) ∈ lw_all := lw_g (lw_at lw_m21 40 rfl) rfl
theorem q5319 : (Jvm.Cond.code ({ cls := "KnowHouse$RuleEngine", name := "isItem", desc := "(I)Z" } : Jvm.MethodName) prog_58_method_4_code (1 : Nat) (Option.some Jvm.ClassFile.FieldType.boolean)) ∈ lw_all := lw_g (lw_at lw_m21 41 rfl) rfl
theorem q5320 : (Jvm.Cond.instantiable "KnowHouse$RuleEngine$Part" (4 : Nat)) ∈ lw_all := lw_g (lw_at lw_m21 42 rfl) rfl
theorem q5321 : (Jvm.Cond.methodLinkNest "KnowHouse$RuleEngine" (118 : Nat) ({ cls := "KnowHouse$RuleEngine$Part", name := "<init>", desc := "(IIII)V" } : Jvm.MethodName) "KnowHouse") ∈ lw_tbl := lw_at lw_m21 43 rfl
theorem q5322 : (Jvm.Cond.instanceMethod ({ cls := "KnowHouse$RuleEngine$Part", name := "<init>", desc := "(IIII)V" } : Jvm.MethodName)) ∈ lw_all := lw_g (lw_at lw_m21 44 rfl) rfl
theorem q5323 : (Jvm.Cond.code ({ cls := "KnowHouse$RuleEngine$Part", name := "<init>", desc := "(IIII)V" } : Jvm.MethodName) prog_63_method_1_code (5 : Nat) (Option.none : Option Jvm.ClassFile.FieldType)) ∈ lw_all := lw_g (lw_at lw_m21 45 rfl) rfl
theorem q5324 : (Jvm.Cond.methodLink "KnowHouse$RuleEngine$Part" (1 : Nat) ({ cls := "java/lang/Record", name := "<init>", desc := "()V" } : Jvm.MethodName)) ∈ lw_all := lw_g (lw_at lw_m21 46 rfl) rfl
theorem q5325 : (Jvm.Cond.fieldLink "KnowHouse$RuleEngine$Part" (7 : Nat) "KnowHouse$RuleEngine$Part" "sort" "I") ∈ lw_all := lw_g (lw_at lw_m21 47 rfl) rfl
theorem q5326 : (Jvm.Cond.fieldLink "KnowHouse$RuleEngine$Part" (13 : Nat) "KnowHouse$RuleEngine$Part" "name" "I") ∈ lw_all := lw_g (lw_at lw_m21 48 rfl) rfl
theorem q5327 : (Jvm.Cond.fieldLink "KnowHouse$RuleEngine$Part" (16 : Nat) "KnowHouse$RuleEngine$Part" "x" "I") ∈ lw_all := lw_g (lw_at lw_m21 49 rfl) rfl
theorem q5328 : (Jvm.Cond.fieldLink "KnowHouse$RuleEngine$Part" (19 : Nat) "KnowHouse$RuleEngine$Part" "y" "I") ∈ lw_all := lw_g (lw_at lw_m21 50 rfl) rfl
theorem q5338 : (Jvm.Cond.methodLink "KnowHouse$RuleEngine" (121 : Nat) ({ cls := "KnowHouse$RuleEngine$Rule", name := "<init>", desc := "(LKnowHouse$RuleEngine$Part;)V" } : Jvm.MethodName)) ∈ lw_all := lw_g (lw_at lw_m21 60 rfl) rfl
theorem q5339 : (Jvm.Cond.instanceMethod ({ cls := "KnowHouse$RuleEngine$Rule", name := "<init>", desc := "(LKnowHouse$RuleEngine$Part;)V" } : Jvm.MethodName)) ∈ lw_all := lw_g (lw_at lw_m21 61 rfl) rfl
theorem q5340 : (Jvm.Cond.code ({ cls := "KnowHouse$RuleEngine$Rule", name := "<init>", desc := "(LKnowHouse$RuleEngine$Part;)V" } : Jvm.MethodName) prog_64_method_1_code (2 : Nat) (Option.none : Option Jvm.ClassFile.FieldType)) ∈ lw_all := lw_g (lw_at lw_m21 62 rfl) rfl
theorem q5341 : (Jvm.Cond.methodLink "KnowHouse$RuleEngine$Rule" (3 : Nat) ({ cls := "java/lang/Object", name := "<init>", desc := "()V" } : Jvm.MethodName)) ∈ lw_all := lw_g (lw_at lw_m21 63 rfl) rfl
theorem q5342 : (Jvm.Cond.classLink "KnowHouse$RuleEngine$Rule" (9 : Nat) "java/util/ArrayList") ∈ lw_all := lw_g (lw_at lw_m21 64 rfl) rfl
theorem q5343 : (Jvm.Cond.methodLink "KnowHouse$RuleEngine$Rule" (11 : Nat) ({ cls := "java/util/ArrayList", name := "<init>", desc := "()V" } : Jvm.MethodName)) ∈ lw_all := lw_g (lw_at lw_m21 65 rfl) rfl
theorem q5344 : (Jvm.Cond.fieldLink "KnowHouse$RuleEngine$Rule" (22 : Nat) "KnowHouse$RuleEngine$Rule" "head" "LKnowHouse$RuleEngine$Part;") ∈ lw_all := lw_g (lw_at lw_m21 66 rfl) rfl
theorem q5345 : (Jvm.Cond.fieldLinkNest "KnowHouse$RuleEngine$Gathering" (9 : Nat) "KnowHouse$RuleEngine$Rule" "head" "LKnowHouse$RuleEngine$Part;" "KnowHouse") ∈ lw_tbl := lw_at lw_m21 67 rfl
theorem q5346 : (Jvm.Cond.fieldLinkNest "KnowHouse$RuleEngine" (157 : Nat) "KnowHouse$RuleEngine$Rule" "head" "LKnowHouse$RuleEngine$Part;" "KnowHouse") ∈ lw_tbl := lw_at lw_m21 68 rfl
theorem q5347 : (Jvm.Cond.fieldLink "KnowHouse$RuleEngine$Rule" (12 : Nat) "KnowHouse$RuleEngine$Rule" "parts" "Ljava/util/ArrayList;") ∈ lw_all := lw_g (lw_at lw_m21 69 rfl) rfl
theorem q5348 : (Jvm.Cond.fieldLinkNest "KnowHouse$RuleEngine" (131 : Nat) "KnowHouse$RuleEngine$Rule" "parts" "Ljava/util/ArrayList;" "KnowHouse") ∈ lw_tbl := lw_at lw_m21 70 rfl
theorem q5349 : (Jvm.Cond.fieldLink "KnowHouse$RuleEngine$Rule" (18 : Nat) "KnowHouse$RuleEngine$Rule" "kind" "I") ∈ lw_all := lw_g (lw_at lw_m21 71 rfl) rfl
theorem q5350 : (Jvm.Cond.fieldLinkNest "KnowHouse$RuleEngine$Gathering" (25 : Nat) "KnowHouse$RuleEngine$Rule" "kind" "I" "KnowHouse") ∈ lw_tbl := lw_at lw_m21 72 rfl
theorem q5351 : (Jvm.Cond.fieldLinkNest "KnowHouse$RuleEngine" (140 : Nat) "KnowHouse$RuleEngine$Rule" "kind" "I" "KnowHouse") ∈ lw_tbl := lw_at lw_m21 73 rfl
theorem q5352 : (Jvm.Cond.fieldLinkNest "KnowHouse$RuleEngine$Gathering" (29 : Nat) "KnowHouse$RuleEngine$Rule" "variable" "I" "KnowHouse") ∈ lw_tbl := lw_at lw_m21 74 rfl
theorem q5353 : (Jvm.Cond.fieldLink "KnowHouse$RuleEngine$Rule" (49 : Nat) "KnowHouse$RuleEngine$Rule" "variable" "I") ∈ lw_all := lw_g (lw_at lw_m21 75 rfl) rfl
theorem q5354 : (Jvm.Cond.fieldLinkNest "KnowHouse$RuleEngine" (144 : Nat) "KnowHouse$RuleEngine$Rule" "variable" "I" "KnowHouse") ∈ lw_tbl := lw_at lw_m21 76 rfl
theorem q5364 : (Jvm.Cond.methodLink "KnowHouse$RuleEngine" (124 : Nat) ({ cls := "java/util/ArrayList", name := "add", desc := "(Ljava/lang/Object;)Z" } : Jvm.MethodName)) ∈ lw_all := lw_g (lw_at lw_m21 86 rfl) rfl
theorem q5369 : (Jvm.Cond.methodLink "KnowHouse$RuleEngine" (134 : Nat) ({ cls := "KnowHouse$RuleEngine", name := "isRule", desc := "(I)Z" } : Jvm.MethodName)) ∈ lw_all := lw_g (lw_at lw_m21 91 rfl) rfl
theorem q5371 : (Jvm.Cond.instanceMethod ({ cls := "KnowHouse$RuleEngine", name := "isRule", desc := "(I)Z" } : Jvm.MethodName)) ∈ lw_all := lw_g (lw_at lw_m21 93 rfl) rfl
theorem q5372 : (Jvm.Cond.code ({ cls := "KnowHouse$RuleEngine", name := "isRule", desc := "(I)Z" } : Jvm.MethodName) prog_58_method_7_code (2 : Nat) (Option.some Jvm.ClassFile.FieldType.boolean)) ∈ lw_all := lw_g (lw_at lw_m21 94 rfl) rfl
theorem q5373 : (Jvm.Cond.methodLink "KnowHouse$RuleEngine" (137 : Nat) ({ cls := "KnowHouse$RuleEngine", name := "add", desc := "(ILKnowHouse$RuleEngine$Part;)I" } : Jvm.MethodName)) ∈ lw_all := lw_g (lw_at lw_m21 95 rfl) rfl
theorem q5375 : (Jvm.Cond.instanceMethod ({ cls := "KnowHouse$RuleEngine", name := "add", desc := "(ILKnowHouse$RuleEngine$Part;)I" } : Jvm.MethodName)) ∈ lw_all := lw_g (lw_at lw_m21 97 rfl) rfl
theorem q5376 : (Jvm.Cond.code ({ cls := "KnowHouse$RuleEngine", name := "add", desc := "(ILKnowHouse$RuleEngine$Part;)I" } : Jvm.MethodName) prog_58_method_12_code (4 : Nat) (Option.some Jvm.ClassFile.FieldType.int)) ∈ lw_all := lw_g (lw_at lw_m21 98 rfl) rfl
theorem q5389 : (Jvm.Cond.methodLink "KnowHouse$RuleEngine" (147 : Nat) ({ cls := "java/util/ArrayList", name := "remove", desc := "(I)Ljava/lang/Object;" } : Jvm.MethodName)) ∈ lw_all := lw_g (lw_at lw_m21 111 rfl) rfl
theorem q5418 : (Jvm.Cond.methodLink "KnowHouse$RuleEngine" (274 : Nat) ({ cls := "java/util/BitSet", name := "cardinality", desc := "()I" } : Jvm.MethodName)) ∈ lw_all := lw_g (lw_at lw_m21 140 rfl) rfl
theorem q9114 : (Jvm.Cond.castable "KnowHouse$RuleEngine$Rule" "java/lang/Object") ∈ lw_tbl := lw_at lw_m36 236 rfl
theorem q9115 : (Jvm.Cond.castable "KnowHouse$RuleEngine$Part" "java/lang/Object") ∈ lw_tbl := lw_at lw_m36 237 rfl
theorem hREx23_X35_cases : "KnowHouse$RuleEngine$Found" ≠ "java/lang/invoke/MethodHandle" ∧ "KnowHouse$RuleEngine$Found" ≠ "java/lang/invoke/VarHandle" ∧ (parseMethodDescriptor "(LKnowHouse$RuleEngine;LKnowHouse$RuleEngine$Rule;)V").map (fun d => d.parameters.length) = some 2 := by decide +kernel
theorem hREJ4_wordIndex : yJ4_wordIndex.cls ≠ "java/lang/invoke/MethodHandle" ∧ yJ4_wordIndex.cls ≠ "java/lang/invoke/VarHandle" ∧ (parseMethodDescriptor yJ4_wordIndex.desc).map (fun d => d.parameters.length) = some 1 := by decide +kernel
theorem hREJ4_initWords : yJ4_initWords.cls ≠ "java/lang/invoke/MethodHandle" ∧ yJ4_initWords.cls ≠ "java/lang/invoke/VarHandle" ∧ (parseMethodDescriptor yJ4_initWords.desc).map (fun d => d.parameters.length) = some 1 := by decide +kernel
theorem hREJ0_init : yJ0_init.cls ≠ "java/lang/invoke/MethodHandle" ∧ yJ0_init.cls ≠ "java/lang/invoke/VarHandle" ∧ (parseMethodDescriptor yJ0_init.desc).map (fun d => d.parameters.length) = some 0 := by decide +kernel
theorem hREJ1_init : yJ1_init.cls ≠ "java/lang/invoke/MethodHandle" ∧ yJ1_init.cls ≠ "java/lang/invoke/VarHandle" ∧ (parseMethodDescriptor yJ1_init.desc).map (fun d => d.parameters.length) = some 0 := by decide +kernel
theorem hREX36_init : yX36_init.cls ≠ "java/lang/invoke/MethodHandle" ∧ yX36_init.cls ≠ "java/lang/invoke/VarHandle" ∧ (parseMethodDescriptor yX36_init.desc).map (fun d => d.parameters.length) = some 0 := by decide +kernel
theorem hREJ4_init_2 : yJ4_init_2.cls ≠ "java/lang/invoke/MethodHandle" ∧ yJ4_init_2.cls ≠ "java/lang/invoke/VarHandle" ∧ (parseMethodDescriptor yJ4_init_2.desc).map (fun d => d.parameters.length) = some 0 := by decide +kernel
theorem hREJ2_init : yJ2_init.cls ≠ "java/lang/invoke/MethodHandle" ∧ yJ2_init.cls ≠ "java/lang/invoke/VarHandle" ∧ (parseMethodDescriptor yJ2_init.desc).map (fun d => d.parameters.length) = some 0 := by decide +kernel
theorem hREX37_init : yX37_init.cls ≠ "java/lang/invoke/MethodHandle" ∧ yX37_init.cls ≠ "java/lang/invoke/VarHandle" ∧ (parseMethodDescriptor yX37_init.desc).map (fun d => d.parameters.length) = some 0 := by decide +kernel
theorem hREX38_init : yX38_init.cls ≠ "java/lang/invoke/MethodHandle" ∧ yX38_init.cls ≠ "java/lang/invoke/VarHandle" ∧ (parseMethodDescriptor yX38_init.desc).map (fun d => d.parameters.length) = some 0 := by decide +kernel
theorem hREX39_init : yX39_init.cls ≠ "java/lang/invoke/MethodHandle" ∧ yX39_init.cls ≠ "java/lang/invoke/VarHandle" ∧ (parseMethodDescriptor yX39_init.desc).map (fun d => d.parameters.length) = some 0 := by decide +kernel
theorem hREX35_isName : yX35_isName.cls ≠ "java/lang/invoke/MethodHandle" ∧ yX35_isName.cls ≠ "java/lang/invoke/VarHandle" ∧ (parseMethodDescriptor yX35_isName.desc).map (fun d => d.parameters.length) = some 1 := by decide +kernel
theorem hREX35_isNumber : yX35_isNumber.cls ≠ "java/lang/invoke/MethodHandle" ∧ yX35_isNumber.cls ≠ "java/lang/invoke/VarHandle" ∧ (parseMethodDescriptor yX35_isNumber.desc).map (fun d => d.parameters.length) = some 1 := by decide +kernel
theorem hREJ4_checkInvariants : yJ4_checkInvariants.cls ≠ "java/lang/invoke/MethodHandle" ∧ yJ4_checkInvariants.cls ≠ "java/lang/invoke/VarHandle" ∧ (parseMethodDescriptor yJ4_checkInvariants.desc).map (fun d => d.parameters.length) = some 0 := by decide +kernel
theorem hREJ12_copyOf_3 : yJ12_copyOf_3.cls ≠ "java/lang/invoke/MethodHandle" ∧ yJ12_copyOf_3.cls ≠ "java/lang/invoke/VarHandle" ∧ (parseMethodDescriptor yJ12_copyOf_3.desc).map (fun d => d.parameters.length) = some 2 := by decide +kernel
theorem hREJ4_ensureCapacity : yJ4_ensureCapacity.cls ≠ "java/lang/invoke/MethodHandle" ∧ yJ4_ensureCapacity.cls ≠ "java/lang/invoke/VarHandle" ∧ (parseMethodDescriptor yJ4_ensureCapacity.desc).map (fun d => d.parameters.length) = some 1 := by decide +kernel
theorem hREJ4_expandTo : yJ4_expandTo.cls ≠ "java/lang/invoke/MethodHandle" ∧ yJ4_expandTo.cls ≠ "java/lang/invoke/VarHandle" ∧ (parseMethodDescriptor yJ4_expandTo.desc).map (fun d => d.parameters.length) = some 1 := by decide +kernel
theorem hREJ4_recalculateWordsInUse : yJ4_recalculateWordsInUse.cls ≠ "java/lang/invoke/MethodHandle" ∧ yJ4_recalculateWordsInUse.cls ≠ "java/lang/invoke/VarHandle" ∧ (parseMethodDescriptor yJ4_recalculateWordsInUse.desc).map (fun d => d.parameters.length) = some 0 := by decide +kernel
theorem hREJ4_set_2 : yJ4_set_2.cls ≠ "java/lang/invoke/MethodHandle" ∧ yJ4_set_2.cls ≠ "java/lang/invoke/VarHandle" ∧ (parseMethodDescriptor yJ4_set_2.desc).map (fun d => d.parameters.length) = some 1 := by decide +kernel
theorem hREJ4_clear : yJ4_clear.cls ≠ "java/lang/invoke/MethodHandle" ∧ yJ4_clear.cls ≠ "java/lang/invoke/VarHandle" ∧ (parseMethodDescriptor yJ4_clear.desc).map (fun d => d.parameters.length) = some 1 := by decide +kernel
theorem hREJ4_get : yJ4_get.cls ≠ "java/lang/invoke/MethodHandle" ∧ yJ4_get.cls ≠ "java/lang/invoke/VarHandle" ∧ (parseMethodDescriptor yJ4_get.desc).map (fun d => d.parameters.length) = some 1 := by decide +kernel
theorem hREJ4_set : yJ4_set.cls ≠ "java/lang/invoke/MethodHandle" ∧ yJ4_set.cls ≠ "java/lang/invoke/VarHandle" ∧ (parseMethodDescriptor yJ4_set.desc).map (fun d => d.parameters.length) = some 2 := by decide +kernel
theorem hREX35_isFact : yX35_isFact.cls ≠ "java/lang/invoke/MethodHandle" ∧ yX35_isFact.cls ≠ "java/lang/invoke/VarHandle" ∧ (parseMethodDescriptor yX35_isFact.desc).map (fun d => d.parameters.length) = some 3 := by decide +kernel
theorem hREX35_code : yX35_code.cls ≠ "java/lang/invoke/MethodHandle" ∧ yX35_code.cls ≠ "java/lang/invoke/VarHandle" ∧ (parseMethodDescriptor yX35_code.desc).map (fun d => d.parameters.length) = some 3 := by decide +kernel
theorem hREX35_change : yX35_change.cls ≠ "java/lang/invoke/MethodHandle" ∧ yX35_change.cls ≠ "java/lang/invoke/VarHandle" ∧ (parseMethodDescriptor yX35_change.desc).map (fun d => d.parameters.length) = some 2 := by decide +kernel
theorem hREJ15_checkIndex : yJ15_checkIndex.cls ≠ "java/lang/invoke/MethodHandle" ∧ yJ15_checkIndex.cls ≠ "java/lang/invoke/VarHandle" ∧ (parseMethodDescriptor yJ15_checkIndex.desc).map (fun d => d.parameters.length) = some 3 := by decide +kernel
theorem hREJ14_checkIndex : yJ14_checkIndex.cls ≠ "java/lang/invoke/MethodHandle" ∧ yJ14_checkIndex.cls ≠ "java/lang/invoke/VarHandle" ∧ (parseMethodDescriptor yJ14_checkIndex.desc).map (fun d => d.parameters.length) = some 2 := by decide +kernel
theorem hREJ2_elementData : yJ2_elementData.cls ≠ "java/lang/invoke/MethodHandle" ∧ yJ2_elementData.cls ≠ "java/lang/invoke/VarHandle" ∧ (parseMethodDescriptor yJ2_elementData.desc).map (fun d => d.parameters.length) = some 1 := by decide +kernel
theorem hREJ2_size : yJ2_size.cls ≠ "java/lang/invoke/MethodHandle" ∧ yJ2_size.cls ≠ "java/lang/invoke/VarHandle" ∧ (parseMethodDescriptor yJ2_size.desc).map (fun d => d.parameters.length) = some 0 := by decide +kernel
theorem hREJ2_get : yJ2_get.cls ≠ "java/lang/invoke/MethodHandle" ∧ yJ2_get.cls ≠ "java/lang/invoke/VarHandle" ∧ (parseMethodDescriptor yJ2_get.desc).map (fun d => d.parameters.length) = some 1 := by decide +kernel
theorem hREX84_sort : yX84_sort.cls ≠ "java/lang/invoke/MethodHandle" ∧ yX84_sort.cls ≠ "java/lang/invoke/VarHandle" ∧ (parseMethodDescriptor yX84_sort.desc).map (fun d => d.parameters.length) = some 0 := by decide +kernel
theorem hREX84_x : yX84_x.cls ≠ "java/lang/invoke/MethodHandle" ∧ yX84_x.cls ≠ "java/lang/invoke/VarHandle" ∧ (parseMethodDescriptor yX84_x.desc).map (fun d => d.parameters.length) = some 0 := by decide +kernel
theorem hREX84_y : yX84_y.cls ≠ "java/lang/invoke/MethodHandle" ∧ yX84_y.cls ≠ "java/lang/invoke/VarHandle" ∧ (parseMethodDescriptor yX84_y.desc).map (fun d => d.parameters.length) = some 0 := by decide +kernel
theorem hREX83_binds : yX83_binds.cls ≠ "java/lang/invoke/MethodHandle" ∧ yX83_binds.cls ≠ "java/lang/invoke/VarHandle" ∧ (parseMethodDescriptor yX83_binds.desc).map (fun d => d.parameters.length) = some 1 := by decide +kernel
theorem hREX84_name : yX84_name.cls ≠ "java/lang/invoke/MethodHandle" ∧ yX84_name.cls ≠ "java/lang/invoke/VarHandle" ∧ (parseMethodDescriptor yX84_name.desc).map (fun d => d.parameters.length) = some 0 := by decide +kernel
theorem hREX35_findNeeds : yX35_findNeeds.cls ≠ "java/lang/invoke/MethodHandle" ∧ yX35_findNeeds.cls ≠ "java/lang/invoke/VarHandle" ∧ (parseMethodDescriptor yX35_findNeeds.desc).map (fun d => d.parameters.length) = some 0 := by decide +kernel
theorem hREX83_isStrict : yX83_isStrict.cls ≠ "java/lang/invoke/MethodHandle" ∧ yX83_isStrict.cls ≠ "java/lang/invoke/VarHandle" ∧ (parseMethodDescriptor yX83_isStrict.desc).map (fun d => d.parameters.length) = some 1 := by decide +kernel
theorem hREJ3_numberOfTrailingZeros : yJ3_numberOfTrailingZeros.cls ≠ "java/lang/invoke/MethodHandle" ∧ yJ3_numberOfTrailingZeros.cls ≠ "java/lang/invoke/VarHandle" ∧ (parseMethodDescriptor yJ3_numberOfTrailingZeros.desc).map (fun d => d.parameters.length) = some 1 := by decide +kernel
theorem hREJ21_numberOfTrailingZeros : yJ21_numberOfTrailingZeros.cls ≠ "java/lang/invoke/MethodHandle" ∧ yJ21_numberOfTrailingZeros.cls ≠ "java/lang/invoke/VarHandle" ∧ (parseMethodDescriptor yJ21_numberOfTrailingZeros.desc).map (fun d => d.parameters.length) = some 1 := by decide +kernel
theorem hREX35_valueOf : yX35_valueOf.cls ≠ "java/lang/invoke/MethodHandle" ∧ yX35_valueOf.cls ≠ "java/lang/invoke/VarHandle" ∧ (parseMethodDescriptor yX35_valueOf.desc).map (fun d => d.parameters.length) = some 1 := by decide +kernel
theorem hREX35_headOf : yX35_headOf.cls ≠ "java/lang/invoke/MethodHandle" ∧ yX35_headOf.cls ≠ "java/lang/invoke/VarHandle" ∧ (parseMethodDescriptor yX35_headOf.desc).map (fun d => d.parameters.length) = some 1 := by decide +kernel
theorem hREX35_come : yX35_come.cls ≠ "java/lang/invoke/MethodHandle" ∧ yX35_come.cls ≠ "java/lang/invoke/VarHandle" ∧ (parseMethodDescriptor yX35_come.desc).map (fun d => d.parameters.length) = some 1 := by decide +kernel
theorem hREX35_passes : yX35_passes.cls ≠ "java/lang/invoke/MethodHandle" ∧ yX35_passes.cls ≠ "java/lang/invoke/VarHandle" ∧ (parseMethodDescriptor yX35_passes.desc).map (fun d => d.parameters.length) = some 1 := by decide +kernel
theorem hREX35_cases : yX35_cases.cls ≠ "java/lang/invoke/MethodHandle" ∧ yX35_cases.cls ≠ "java/lang/invoke/VarHandle" ∧ (parseMethodDescriptor yX35_cases.desc).map (fun d => d.parameters.length) = some 5 := by decide +kernel
theorem hREJ4_nextSetBit : yJ4_nextSetBit.cls ≠ "java/lang/invoke/MethodHandle" ∧ yJ4_nextSetBit.cls ≠ "java/lang/invoke/VarHandle" ∧ (parseMethodDescriptor yJ4_nextSetBit.desc).map (fun d => d.parameters.length) = some 1 := by decide +kernel
theorem hREX35_bind : yX35_bind.cls ≠ "java/lang/invoke/MethodHandle" ∧ yX35_bind.cls ≠ "java/lang/invoke/VarHandle" ∧ (parseMethodDescriptor yX35_bind.desc).map (fun d => d.parameters.length) = some 2 := by decide +kernel
theorem hREX35_free : yX35_free.cls ≠ "java/lang/invoke/MethodHandle" ∧ yX35_free.cls ≠ "java/lang/invoke/VarHandle" ∧ (parseMethodDescriptor yX35_free.desc).map (fun d => d.parameters.length) = some 0 := by decide +kernel
theorem hREX35_gather : yX35_gather.cls ≠ "java/lang/invoke/MethodHandle" ∧ yX35_gather.cls ≠ "java/lang/invoke/VarHandle" ∧ (parseMethodDescriptor yX35_gather.desc).map (fun d => d.parameters.length) = some 1 := by decide +kernel
theorem hREJ4_clear_2 : yJ4_clear_2.cls ≠ "java/lang/invoke/MethodHandle" ∧ yJ4_clear_2.cls ≠ "java/lang/invoke/VarHandle" ∧ (parseMethodDescriptor yJ4_clear_2.desc).map (fun d => d.parameters.length) = some 0 := by decide +kernel
theorem hREX35_pay : yX35_pay.cls ≠ "java/lang/invoke/MethodHandle" ∧ yX35_pay.cls ≠ "java/lang/invoke/VarHandle" ∧ (parseMethodDescriptor yX35_pay.desc).map (fun d => d.parameters.length) = some 1 := by decide +kernel
theorem hREX35_give : yX35_give.cls ≠ "java/lang/invoke/MethodHandle" ∧ yX35_give.cls ≠ "java/lang/invoke/VarHandle" ∧ (parseMethodDescriptor yX35_give.desc).map (fun d => d.parameters.length) = some 2 := by decide +kernel
theorem hREJ4_isEmpty : yJ4_isEmpty.cls ≠ "java/lang/invoke/MethodHandle" ∧ yJ4_isEmpty.cls ≠ "java/lang/invoke/VarHandle" ∧ (parseMethodDescriptor yJ4_isEmpty.desc).map (fun d => d.parameters.length) = some 0 := by decide +kernel
theorem hREJ4_or : yJ4_or.cls ≠ "java/lang/invoke/MethodHandle" ∧ yJ4_or.cls ≠ "java/lang/invoke/VarHandle" ∧ (parseMethodDescriptor yJ4_or.desc).map (fun d => d.parameters.length) = some 1 := by decide +kernel
theorem hREX83_isSafe : yX83_isSafe.cls ≠ "java/lang/invoke/MethodHandle" ∧ yX83_isSafe.cls ≠ "java/lang/invoke/VarHandle" ∧ (parseMethodDescriptor yX83_isSafe.desc).map (fun d => d.parameters.length) = some 0 := by decide +kernel
theorem hREX35_stratify : yX35_stratify.cls ≠ "java/lang/invoke/MethodHandle" ∧ yX35_stratify.cls ≠ "java/lang/invoke/VarHandle" ∧ (parseMethodDescriptor yX35_stratify.desc).map (fun d => d.parameters.length) = some 0 := by decide +kernel
theorem hREX35_goThrough : yX35_goThrough.cls ≠ "java/lang/invoke/MethodHandle" ∧ yX35_goThrough.cls ≠ "java/lang/invoke/VarHandle" ∧ (parseMethodDescriptor yX35_goThrough.desc).map (fun d => d.parameters.length) = some 1 := by decide +kernel
theorem hREX35_onlySaid : yX35_onlySaid.cls ≠ "java/lang/invoke/MethodHandle" ∧ yX35_onlySaid.cls ≠ "java/lang/invoke/VarHandle" ∧ (parseMethodDescriptor yX35_onlySaid.desc).map (fun d => d.parameters.length) = some 0 := by decide +kernel
theorem hREX35_count : yX35_count.cls ≠ "java/lang/invoke/MethodHandle" ∧ yX35_count.cls ≠ "java/lang/invoke/VarHandle" ∧ (parseMethodDescriptor yX35_count.desc).map (fun d => d.parameters.length) = some 1 := by decide +kernel
theorem hREX35_find : yX35_find.cls ≠ "java/lang/invoke/MethodHandle" ∧ yX35_find.cls ≠ "java/lang/invoke/VarHandle" ∧ (parseMethodDescriptor yX35_find.desc).map (fun d => d.parameters.length) = some 0 := by decide +kernel
theorem hREJ7_init : yJ7_init.cls ≠ "java/lang/invoke/MethodHandle" ∧ yJ7_init.cls ≠ "java/lang/invoke/VarHandle" ∧ (parseMethodDescriptor yJ7_init.desc).map (fun d => d.parameters.length) = some 0 := by decide +kernel
theorem hREJ13_hugeLength : yJ13_hugeLength.cls ≠ "java/lang/invoke/MethodHandle" ∧ yJ13_hugeLength.cls ≠ "java/lang/invoke/VarHandle" ∧ (parseMethodDescriptor yJ13_hugeLength.desc).map (fun d => d.parameters.length) = some 2 := by decide +kernel
theorem hREJ12_copyOf_2 : yJ12_copyOf_2.cls ≠ "java/lang/invoke/MethodHandle" ∧ yJ12_copyOf_2.cls ≠ "java/lang/invoke/VarHandle" ∧ (parseMethodDescriptor yJ12_copyOf_2.desc).map (fun d => d.parameters.length) = some 3 := by decide +kernel
theorem hREJ13_newLength : yJ13_newLength.cls ≠ "java/lang/invoke/MethodHandle" ∧ yJ13_newLength.cls ≠ "java/lang/invoke/VarHandle" ∧ (parseMethodDescriptor yJ13_newLength.desc).map (fun d => d.parameters.length) = some 3 := by decide +kernel
theorem hREJ12_copyOf : yJ12_copyOf.cls ≠ "java/lang/invoke/MethodHandle" ∧ yJ12_copyOf.cls ≠ "java/lang/invoke/VarHandle" ∧ (parseMethodDescriptor yJ12_copyOf.desc).map (fun d => d.parameters.length) = some 2 := by decide +kernel
theorem hREJ2_grow_2 : yJ2_grow_2.cls ≠ "java/lang/invoke/MethodHandle" ∧ yJ2_grow_2.cls ≠ "java/lang/invoke/VarHandle" ∧ (parseMethodDescriptor yJ2_grow_2.desc).map (fun d => d.parameters.length) = some 1 := by decide +kernel
theorem hREJ2_grow : yJ2_grow.cls ≠ "java/lang/invoke/MethodHandle" ∧ yJ2_grow.cls ≠ "java/lang/invoke/VarHandle" ∧ (parseMethodDescriptor yJ2_grow.desc).map (fun d => d.parameters.length) = some 0 := by decide +kernel
theorem hREJ2_add_2 : yJ2_add_2.cls ≠ "java/lang/invoke/MethodHandle" ∧ yJ2_add_2.cls ≠ "java/lang/invoke/VarHandle" ∧ (parseMethodDescriptor yJ2_add_2.desc).map (fun d => d.parameters.length) = some 3 := by decide +kernel
theorem hREX35_isItem : yX35_isItem.cls ≠ "java/lang/invoke/MethodHandle" ∧ yX35_isItem.cls ≠ "java/lang/invoke/VarHandle" ∧ (parseMethodDescriptor yX35_isItem.desc).map (fun d => d.parameters.length) = some 1 := by decide +kernel
theorem hREX84_init : yX84_init.cls ≠ "java/lang/invoke/MethodHandle" ∧ yX84_init.cls ≠ "java/lang/invoke/VarHandle" ∧ (parseMethodDescriptor yX84_init.desc).map (fun d => d.parameters.length) = some 4 := by decide +kernel
theorem hREX83_init : yX83_init.cls ≠ "java/lang/invoke/MethodHandle" ∧ yX83_init.cls ≠ "java/lang/invoke/VarHandle" ∧ (parseMethodDescriptor yX83_init.desc).map (fun d => d.parameters.length) = some 1 := by decide +kernel
theorem hREJ2_add : yJ2_add.cls ≠ "java/lang/invoke/MethodHandle" ∧ yJ2_add.cls ≠ "java/lang/invoke/VarHandle" ∧ (parseMethodDescriptor yJ2_add.desc).map (fun d => d.parameters.length) = some 1 := by decide +kernel
theorem hREX35_isRule : yX35_isRule.cls ≠ "java/lang/invoke/MethodHandle" ∧ yX35_isRule.cls ≠ "java/lang/invoke/VarHandle" ∧ (parseMethodDescriptor yX35_isRule.desc).map (fun d => d.parameters.length) = some 1 := by decide +kernel
theorem hREX35_add : yX35_add.cls ≠ "java/lang/invoke/MethodHandle" ∧ yX35_add.cls ≠ "java/lang/invoke/VarHandle" ∧ (parseMethodDescriptor yX35_add.desc).map (fun d => d.parameters.length) = some 2 := by decide +kernel
theorem hREJ2_fastRemove : yJ2_fastRemove.cls ≠ "java/lang/invoke/MethodHandle" ∧ yJ2_fastRemove.cls ≠ "java/lang/invoke/VarHandle" ∧ (parseMethodDescriptor yJ2_fastRemove.desc).map (fun d => d.parameters.length) = some 2 := by decide +kernel
theorem hREJ2_remove : yJ2_remove.cls ≠ "java/lang/invoke/MethodHandle" ∧ yJ2_remove.cls ≠ "java/lang/invoke/VarHandle" ∧ (parseMethodDescriptor yJ2_remove.desc).map (fun d => d.parameters.length) = some 1 := by decide +kernel
theorem hREJ21_bitCount : yJ21_bitCount.cls ≠ "java/lang/invoke/MethodHandle" ∧ yJ21_bitCount.cls ≠ "java/lang/invoke/VarHandle" ∧ (parseMethodDescriptor yJ21_bitCount.desc).map (fun d => d.parameters.length) = some 1 := by decide +kernel
theorem hREJ4_cardinality : yJ4_cardinality.cls ≠ "java/lang/invoke/MethodHandle" ∧ yJ4_cardinality.cls ≠ "java/lang/invoke/VarHandle" ∧ (parseMethodDescriptor yJ4_cardinality.desc).map (fun d => d.parameters.length) = some 0 := by decide +kernel
def kERE (G : kGt) (sa : Nat → Nat) : Prop := ∀ (A : Nat → Prop) (s : State) (H : Heap), G A s H → va_Z "java/util/ArrayList" "DEFAULTCAPACITY_EMPTY_ELEMENTDATA" "[Ljava/lang/Object;" (.ref (sa 0)) A s H ∧ va_Z "java/util/BitSet" "$assertionsDisabled" "Z" (.int 1) A s H ∧ va_Mi "[Ljava/lang/Object;" (sa 10) s ∧ va_T (.object "java/lang/Object") (sa 0) 0 (fun _ => .null) A s H ∧ True
theorem kERE_0 {G : kGt} {sa : Nat → Nat} (h : kERE G sa) {A : Nat → Prop} {s : State} {H : Heap} (g : G A s H) : va_Z "java/util/ArrayList" "DEFAULTCAPACITY_EMPTY_ELEMENTDATA" "[Ljava/lang/Object;" (.ref (sa 0)) A s H := (h A s H g).1
theorem kERE_1 {G : kGt} {sa : Nat → Nat} (h : kERE G sa) {A : Nat → Prop} {s : State} {H : Heap} (g : G A s H) : va_Z "java/util/BitSet" "$assertionsDisabled" "Z" (.int 1) A s H := (h A s H g).2.1
theorem kERE_2 {G : kGt} {sa : Nat → Nat} (h : kERE G sa) {A : Nat → Prop} {s : State} {H : Heap} (g : G A s H) : va_Mi "[Ljava/lang/Object;" (sa 10) s := (h A s H g).2.2.1
theorem kERE_3 {G : kGt} {sa : Nat → Nat} (h : kERE G sa) {A : Nat → Prop} {s : State} {H : Heap} (g : G A s H) : va_T (.object "java/lang/Object") (sa 0) 0 (fun _ => .null) A s H := (h A s H g).2.2.2.1
def cRE (ci : Nat → Nat) (d : Nat → ClassId) (kd : Nat → Nat) (an : Nat → Nat) (ai : Nat → Nat → Int32) (al : Nat → Nat → Int64) (ar : Nat → Nat → Option Nat) (mX35_said : Nat → Option Nat) (mX35_rules : Nat → Option Nat) (mX35_strata : Nat → Option Nat) (mX35_needs : Nat → Option Nat) (mX35_safe : Nat → Option Nat) (mX35_circle : Nat → Int32) (mX35_known : Nat → Int32) (mX35_holds : Nat → Option Nat) (mX35_rounds : Nat → Option Nat) (mX35_counts : Nat → Option Nat) (mX35_roundCount : Nat → Int32) (mX35_last : Nat → Option Nat) (mX35_next : Nat → Option Nat) (mX35_values : Nat → Option Nat) (mX35_coming : Nat → Option Nat) (mX35_counting : Nat → Option Nat) (mX35_gathering : Nat → Option Nat) (mX35_together : Nat → Option Nat) (mX35_held : Nat → Option Nat) (mX35_work : Nat → Int64) (mX35_large : Nat → Int32) (mX83_head : Nat → Option Nat) (mX83_parts : Nat → Option Nat) (mX83_kind : Nat → Int32) (mX83_variable : Nat → Int32) (mX84_sort : Nat → Int32) (mX84_name : Nat → Int32) (mX84_x : Nat → Int32) (mX84_y : Nat → Int32) (mJ1_modCount : Nat → Int32) (mJ2_elementData : Nat → Option Nat) (mJ2_size : Nat → Int32) (mJ4_words : Nat → Option Nat) (mJ4_wordsInUse : Nat → Int32) (mJ4_sizeIsSticky : Nat → Int32) : Nat → va_E := fun a => match kd a with
  | 1 => .inr (ci 0, [va_rf (mX35_said a), va_rf (mX35_rules a), va_rf (mX35_strata a), va_rf (mX35_needs a), va_rf (mX35_safe a), .int (mX35_circle a), .int (mX35_known a), va_rf (mX35_holds a), va_rf (mX35_rounds a), va_rf (mX35_counts a), .int (mX35_roundCount a), va_rf (mX35_last a), va_rf (mX35_next a), va_rf (mX35_values a), va_rf (mX35_coming a), va_rf (mX35_counting a), va_rf (mX35_gathering a), va_rf (mX35_together a), va_rf (mX35_held a), .long (mX35_work a), .int (mX35_large a)])
  | 2 => .inr (ci 1, [])
  | 3 => .inr (ci 2, [])
  | 4 => .inr (ci 3, [])
  | 5 => .inr (ci 4, [va_rf (mX83_head a), va_rf (mX83_parts a), .int (mX83_kind a), .int (mX83_variable a)])
  | 6 => .inr (ci 5, [.int (mX84_sort a), .int (mX84_name a), .int (mX84_x a), .int (mX84_y a)])
  | 7 => .inr (ci 6, [.int (mJ1_modCount a), va_rf (mJ2_elementData a), .int (mJ2_size a)])
  | 8 => .inr (ci 7, [va_rf (mJ4_words a), .int (mJ4_wordsInUse a), .int (mJ4_sizeIsSticky a)])
  | 9 => .inl (d 0, an a, .inl (ai a))
  | 10 => .inl (d 1, an a, .inl (ai a))
  | 11 => .inl (d 2, an a, .inr (.inl (al a)))
  | 12 => .inl (d 3, an a, .inr (.inr (.inr (.inr (ar a)))))
  | _ => .inl (d 0, 0, .inl (fun _ => 0))
abbrev kRE : List vw_C := [(RX35, TX35, 21), (RX37, TX37, 0), (RX38, TX38, 0), (RX39, TX39, 0), (RX83, TX83, 4), (RX84, TX84, 4), (RJ2, TJ2, 3), (RJ4, TJ4, 3)]
abbrev tRE (d : Nat → ClassId) : List (ClassId × FieldType) := [(d 0, .int), (d 1, .boolean), (d 2, .long), (d 3, (.object "java/lang/Object"))]
theorem cRE_1 {ci : Nat → Nat} {d : Nat → ClassId} {kd : Nat → Nat} {an : Nat → Nat} {ai : Nat → Nat → Int32} {al : Nat → Nat → Int64} {ar : Nat → Nat → Option Nat} {mX35_said : Nat → Option Nat} {mX35_rules : Nat → Option Nat} {mX35_strata : Nat → Option Nat} {mX35_needs : Nat → Option Nat} {mX35_safe : Nat → Option Nat} {mX35_circle : Nat → Int32} {mX35_known : Nat → Int32} {mX35_holds : Nat → Option Nat} {mX35_rounds : Nat → Option Nat} {mX35_counts : Nat → Option Nat} {mX35_roundCount : Nat → Int32} {mX35_last : Nat → Option Nat} {mX35_next : Nat → Option Nat} {mX35_values : Nat → Option Nat} {mX35_coming : Nat → Option Nat} {mX35_counting : Nat → Option Nat} {mX35_gathering : Nat → Option Nat} {mX35_together : Nat → Option Nat} {mX35_held : Nat → Option Nat} {mX35_work : Nat → Int64} {mX35_large : Nat → Int32} {mX83_head : Nat → Option Nat} {mX83_parts : Nat → Option Nat} {mX83_kind : Nat → Int32} {mX83_variable : Nat → Int32} {mX84_sort : Nat → Int32} {mX84_name : Nat → Int32} {mX84_x : Nat → Int32} {mX84_y : Nat → Int32} {mJ1_modCount : Nat → Int32} {mJ2_elementData : Nat → Option Nat} {mJ2_size : Nat → Int32} {mJ4_words : Nat → Option Nat} {mJ4_wordsInUse : Nat → Int32} {mJ4_sizeIsSticky : Nat → Int32} {a : Nat} (hk : kd a = 1) : (cRE ci d kd an ai al ar mX35_said mX35_rules mX35_strata mX35_needs mX35_safe mX35_circle mX35_known mX35_holds mX35_rounds mX35_counts mX35_roundCount mX35_last mX35_next mX35_values mX35_coming mX35_counting mX35_gathering mX35_together mX35_held mX35_work mX35_large mX83_head mX83_parts mX83_kind mX83_variable mX84_sort mX84_name mX84_x mX84_y mJ1_modCount mJ2_elementData mJ2_size mJ4_words mJ4_wordsInUse mJ4_sizeIsSticky) a = .inr (ci 0, [va_rf (mX35_said a), va_rf (mX35_rules a), va_rf (mX35_strata a), va_rf (mX35_needs a), va_rf (mX35_safe a), .int (mX35_circle a), .int (mX35_known a), va_rf (mX35_holds a), va_rf (mX35_rounds a), va_rf (mX35_counts a), .int (mX35_roundCount a), va_rf (mX35_last a), va_rf (mX35_next a), va_rf (mX35_values a), va_rf (mX35_coming a), va_rf (mX35_counting a), va_rf (mX35_gathering a), va_rf (mX35_together a), va_rf (mX35_held a), .long (mX35_work a), .int (mX35_large a)]) := by unfold cRE; simp only [hk]
theorem cRE_1_0 {ci : Nat → Nat} {d : Nat → ClassId} {kd : Nat → Nat} {an : Nat → Nat} {ai : Nat → Nat → Int32} {al : Nat → Nat → Int64} {ar : Nat → Nat → Option Nat} {mX35_said : Nat → Option Nat} {mX35_rules : Nat → Option Nat} {mX35_strata : Nat → Option Nat} {mX35_needs : Nat → Option Nat} {mX35_safe : Nat → Option Nat} {mX35_circle : Nat → Int32} {mX35_known : Nat → Int32} {mX35_holds : Nat → Option Nat} {mX35_rounds : Nat → Option Nat} {mX35_counts : Nat → Option Nat} {mX35_roundCount : Nat → Int32} {mX35_last : Nat → Option Nat} {mX35_next : Nat → Option Nat} {mX35_values : Nat → Option Nat} {mX35_coming : Nat → Option Nat} {mX35_counting : Nat → Option Nat} {mX35_gathering : Nat → Option Nat} {mX35_together : Nat → Option Nat} {mX35_held : Nat → Option Nat} {mX35_work : Nat → Int64} {mX35_large : Nat → Int32} {mX83_head : Nat → Option Nat} {mX83_parts : Nat → Option Nat} {mX83_kind : Nat → Int32} {mX83_variable : Nat → Int32} {mX84_sort : Nat → Int32} {mX84_name : Nat → Int32} {mX84_x : Nat → Int32} {mX84_y : Nat → Int32} {mJ1_modCount : Nat → Int32} {mJ2_elementData : Nat → Option Nat} {mJ2_size : Nat → Int32} {mJ4_words : Nat → Option Nat} {mJ4_wordsInUse : Nat → Int32} {mJ4_sizeIsSticky : Nat → Int32} {a : Nat} {v : Option Nat} (hk : kd a = 1) : va_up (cRE ci d kd an ai al ar mX35_said mX35_rules mX35_strata mX35_needs mX35_safe mX35_circle mX35_known mX35_holds mX35_rounds mX35_counts mX35_roundCount mX35_last mX35_next mX35_values mX35_coming mX35_counting mX35_gathering mX35_together mX35_held mX35_work mX35_large mX83_head mX83_parts mX83_kind mX83_variable mX84_sort mX84_name mX84_x mX84_y mJ1_modCount mJ2_elementData mJ2_size mJ4_words mJ4_wordsInUse mJ4_sizeIsSticky) a (.inr (ci 0, [va_rf v, va_rf (mX35_rules a), va_rf (mX35_strata a), va_rf (mX35_needs a), va_rf (mX35_safe a), .int (mX35_circle a), .int (mX35_known a), va_rf (mX35_holds a), va_rf (mX35_rounds a), va_rf (mX35_counts a), .int (mX35_roundCount a), va_rf (mX35_last a), va_rf (mX35_next a), va_rf (mX35_values a), va_rf (mX35_coming a), va_rf (mX35_counting a), va_rf (mX35_gathering a), va_rf (mX35_together a), va_rf (mX35_held a), .long (mX35_work a), .int (mX35_large a)])) = (cRE ci d kd an ai al ar (va_up mX35_said a v) mX35_rules mX35_strata mX35_needs mX35_safe mX35_circle mX35_known mX35_holds mX35_rounds mX35_counts mX35_roundCount mX35_last mX35_next mX35_values mX35_coming mX35_counting mX35_gathering mX35_together mX35_held mX35_work mX35_large mX83_head mX83_parts mX83_kind mX83_variable mX84_sort mX84_name mX84_x mX84_y mJ1_modCount mJ2_elementData mJ2_size mJ4_words mJ4_wordsInUse mJ4_sizeIsSticky) := by
  funext b
  by_cases h : b = a
  · subst h
    rw [va_up_self]
    unfold cRE
    rw [hk]
    simp only [va_up_self]
  · rw [va_up_ne _ _ h]
    unfold cRE
    simp only [va_up_ne _ _ h]
theorem cRE_1_1 {ci : Nat → Nat} {d : Nat → ClassId} {kd : Nat → Nat} {an : Nat → Nat} {ai : Nat → Nat → Int32} {al : Nat → Nat → Int64} {ar : Nat → Nat → Option Nat} {mX35_said : Nat → Option Nat} {mX35_rules : Nat → Option Nat} {mX35_strata : Nat → Option Nat} {mX35_needs : Nat → Option Nat} {mX35_safe : Nat → Option Nat} {mX35_circle : Nat → Int32} {mX35_known : Nat → Int32} {mX35_holds : Nat → Option Nat} {mX35_rounds : Nat → Option Nat} {mX35_counts : Nat → Option Nat} {mX35_roundCount : Nat → Int32} {mX35_last : Nat → Option Nat} {mX35_next : Nat → Option Nat} {mX35_values : Nat → Option Nat} {mX35_coming : Nat → Option Nat} {mX35_counting : Nat → Option Nat} {mX35_gathering : Nat → Option Nat} {mX35_together : Nat → Option Nat} {mX35_held : Nat → Option Nat} {mX35_work : Nat → Int64} {mX35_large : Nat → Int32} {mX83_head : Nat → Option Nat} {mX83_parts : Nat → Option Nat} {mX83_kind : Nat → Int32} {mX83_variable : Nat → Int32} {mX84_sort : Nat → Int32} {mX84_name : Nat → Int32} {mX84_x : Nat → Int32} {mX84_y : Nat → Int32} {mJ1_modCount : Nat → Int32} {mJ2_elementData : Nat → Option Nat} {mJ2_size : Nat → Int32} {mJ4_words : Nat → Option Nat} {mJ4_wordsInUse : Nat → Int32} {mJ4_sizeIsSticky : Nat → Int32} {a : Nat} {v : Option Nat} (hk : kd a = 1) : va_up (cRE ci d kd an ai al ar mX35_said mX35_rules mX35_strata mX35_needs mX35_safe mX35_circle mX35_known mX35_holds mX35_rounds mX35_counts mX35_roundCount mX35_last mX35_next mX35_values mX35_coming mX35_counting mX35_gathering mX35_together mX35_held mX35_work mX35_large mX83_head mX83_parts mX83_kind mX83_variable mX84_sort mX84_name mX84_x mX84_y mJ1_modCount mJ2_elementData mJ2_size mJ4_words mJ4_wordsInUse mJ4_sizeIsSticky) a (.inr (ci 0, [va_rf (mX35_said a), va_rf v, va_rf (mX35_strata a), va_rf (mX35_needs a), va_rf (mX35_safe a), .int (mX35_circle a), .int (mX35_known a), va_rf (mX35_holds a), va_rf (mX35_rounds a), va_rf (mX35_counts a), .int (mX35_roundCount a), va_rf (mX35_last a), va_rf (mX35_next a), va_rf (mX35_values a), va_rf (mX35_coming a), va_rf (mX35_counting a), va_rf (mX35_gathering a), va_rf (mX35_together a), va_rf (mX35_held a), .long (mX35_work a), .int (mX35_large a)])) = (cRE ci d kd an ai al ar mX35_said (va_up mX35_rules a v) mX35_strata mX35_needs mX35_safe mX35_circle mX35_known mX35_holds mX35_rounds mX35_counts mX35_roundCount mX35_last mX35_next mX35_values mX35_coming mX35_counting mX35_gathering mX35_together mX35_held mX35_work mX35_large mX83_head mX83_parts mX83_kind mX83_variable mX84_sort mX84_name mX84_x mX84_y mJ1_modCount mJ2_elementData mJ2_size mJ4_words mJ4_wordsInUse mJ4_sizeIsSticky) := by
  funext b
  by_cases h : b = a
  · subst h
    rw [va_up_self]
    unfold cRE
    rw [hk]
    simp only [va_up_self]
  · rw [va_up_ne _ _ h]
    unfold cRE
    simp only [va_up_ne _ _ h]
theorem cRE_1_2 {ci : Nat → Nat} {d : Nat → ClassId} {kd : Nat → Nat} {an : Nat → Nat} {ai : Nat → Nat → Int32} {al : Nat → Nat → Int64} {ar : Nat → Nat → Option Nat} {mX35_said : Nat → Option Nat} {mX35_rules : Nat → Option Nat} {mX35_strata : Nat → Option Nat} {mX35_needs : Nat → Option Nat} {mX35_safe : Nat → Option Nat} {mX35_circle : Nat → Int32} {mX35_known : Nat → Int32} {mX35_holds : Nat → Option Nat} {mX35_rounds : Nat → Option Nat} {mX35_counts : Nat → Option Nat} {mX35_roundCount : Nat → Int32} {mX35_last : Nat → Option Nat} {mX35_next : Nat → Option Nat} {mX35_values : Nat → Option Nat} {mX35_coming : Nat → Option Nat} {mX35_counting : Nat → Option Nat} {mX35_gathering : Nat → Option Nat} {mX35_together : Nat → Option Nat} {mX35_held : Nat → Option Nat} {mX35_work : Nat → Int64} {mX35_large : Nat → Int32} {mX83_head : Nat → Option Nat} {mX83_parts : Nat → Option Nat} {mX83_kind : Nat → Int32} {mX83_variable : Nat → Int32} {mX84_sort : Nat → Int32} {mX84_name : Nat → Int32} {mX84_x : Nat → Int32} {mX84_y : Nat → Int32} {mJ1_modCount : Nat → Int32} {mJ2_elementData : Nat → Option Nat} {mJ2_size : Nat → Int32} {mJ4_words : Nat → Option Nat} {mJ4_wordsInUse : Nat → Int32} {mJ4_sizeIsSticky : Nat → Int32} {a : Nat} {v : Option Nat} (hk : kd a = 1) : va_up (cRE ci d kd an ai al ar mX35_said mX35_rules mX35_strata mX35_needs mX35_safe mX35_circle mX35_known mX35_holds mX35_rounds mX35_counts mX35_roundCount mX35_last mX35_next mX35_values mX35_coming mX35_counting mX35_gathering mX35_together mX35_held mX35_work mX35_large mX83_head mX83_parts mX83_kind mX83_variable mX84_sort mX84_name mX84_x mX84_y mJ1_modCount mJ2_elementData mJ2_size mJ4_words mJ4_wordsInUse mJ4_sizeIsSticky) a (.inr (ci 0, [va_rf (mX35_said a), va_rf (mX35_rules a), va_rf v, va_rf (mX35_needs a), va_rf (mX35_safe a), .int (mX35_circle a), .int (mX35_known a), va_rf (mX35_holds a), va_rf (mX35_rounds a), va_rf (mX35_counts a), .int (mX35_roundCount a), va_rf (mX35_last a), va_rf (mX35_next a), va_rf (mX35_values a), va_rf (mX35_coming a), va_rf (mX35_counting a), va_rf (mX35_gathering a), va_rf (mX35_together a), va_rf (mX35_held a), .long (mX35_work a), .int (mX35_large a)])) = (cRE ci d kd an ai al ar mX35_said mX35_rules (va_up mX35_strata a v) mX35_needs mX35_safe mX35_circle mX35_known mX35_holds mX35_rounds mX35_counts mX35_roundCount mX35_last mX35_next mX35_values mX35_coming mX35_counting mX35_gathering mX35_together mX35_held mX35_work mX35_large mX83_head mX83_parts mX83_kind mX83_variable mX84_sort mX84_name mX84_x mX84_y mJ1_modCount mJ2_elementData mJ2_size mJ4_words mJ4_wordsInUse mJ4_sizeIsSticky) := by
  funext b
  by_cases h : b = a
  · subst h
    rw [va_up_self]
    unfold cRE
    rw [hk]
    simp only [va_up_self]
  · rw [va_up_ne _ _ h]
    unfold cRE
    simp only [va_up_ne _ _ h]
theorem cRE_1_3 {ci : Nat → Nat} {d : Nat → ClassId} {kd : Nat → Nat} {an : Nat → Nat} {ai : Nat → Nat → Int32} {al : Nat → Nat → Int64} {ar : Nat → Nat → Option Nat} {mX35_said : Nat → Option Nat} {mX35_rules : Nat → Option Nat} {mX35_strata : Nat → Option Nat} {mX35_needs : Nat → Option Nat} {mX35_safe : Nat → Option Nat} {mX35_circle : Nat → Int32} {mX35_known : Nat → Int32} {mX35_holds : Nat → Option Nat} {mX35_rounds : Nat → Option Nat} {mX35_counts : Nat → Option Nat} {mX35_roundCount : Nat → Int32} {mX35_last : Nat → Option Nat} {mX35_next : Nat → Option Nat} {mX35_values : Nat → Option Nat} {mX35_coming : Nat → Option Nat} {mX35_counting : Nat → Option Nat} {mX35_gathering : Nat → Option Nat} {mX35_together : Nat → Option Nat} {mX35_held : Nat → Option Nat} {mX35_work : Nat → Int64} {mX35_large : Nat → Int32} {mX83_head : Nat → Option Nat} {mX83_parts : Nat → Option Nat} {mX83_kind : Nat → Int32} {mX83_variable : Nat → Int32} {mX84_sort : Nat → Int32} {mX84_name : Nat → Int32} {mX84_x : Nat → Int32} {mX84_y : Nat → Int32} {mJ1_modCount : Nat → Int32} {mJ2_elementData : Nat → Option Nat} {mJ2_size : Nat → Int32} {mJ4_words : Nat → Option Nat} {mJ4_wordsInUse : Nat → Int32} {mJ4_sizeIsSticky : Nat → Int32} {a : Nat} {v : Option Nat} (hk : kd a = 1) : va_up (cRE ci d kd an ai al ar mX35_said mX35_rules mX35_strata mX35_needs mX35_safe mX35_circle mX35_known mX35_holds mX35_rounds mX35_counts mX35_roundCount mX35_last mX35_next mX35_values mX35_coming mX35_counting mX35_gathering mX35_together mX35_held mX35_work mX35_large mX83_head mX83_parts mX83_kind mX83_variable mX84_sort mX84_name mX84_x mX84_y mJ1_modCount mJ2_elementData mJ2_size mJ4_words mJ4_wordsInUse mJ4_sizeIsSticky) a (.inr (ci 0, [va_rf (mX35_said a), va_rf (mX35_rules a), va_rf (mX35_strata a), va_rf v, va_rf (mX35_safe a), .int (mX35_circle a), .int (mX35_known a), va_rf (mX35_holds a), va_rf (mX35_rounds a), va_rf (mX35_counts a), .int (mX35_roundCount a), va_rf (mX35_last a), va_rf (mX35_next a), va_rf (mX35_values a), va_rf (mX35_coming a), va_rf (mX35_counting a), va_rf (mX35_gathering a), va_rf (mX35_together a), va_rf (mX35_held a), .long (mX35_work a), .int (mX35_large a)])) = (cRE ci d kd an ai al ar mX35_said mX35_rules mX35_strata (va_up mX35_needs a v) mX35_safe mX35_circle mX35_known mX35_holds mX35_rounds mX35_counts mX35_roundCount mX35_last mX35_next mX35_values mX35_coming mX35_counting mX35_gathering mX35_together mX35_held mX35_work mX35_large mX83_head mX83_parts mX83_kind mX83_variable mX84_sort mX84_name mX84_x mX84_y mJ1_modCount mJ2_elementData mJ2_size mJ4_words mJ4_wordsInUse mJ4_sizeIsSticky) := by
  funext b
  by_cases h : b = a
  · subst h
    rw [va_up_self]
    unfold cRE
    rw [hk]
    simp only [va_up_self]
  · rw [va_up_ne _ _ h]
    unfold cRE
    simp only [va_up_ne _ _ h]
theorem cRE_1_4 {ci : Nat → Nat} {d : Nat → ClassId} {kd : Nat → Nat} {an : Nat → Nat} {ai : Nat → Nat → Int32} {al : Nat → Nat → Int64} {ar : Nat → Nat → Option Nat} {mX35_said : Nat → Option Nat} {mX35_rules : Nat → Option Nat} {mX35_strata : Nat → Option Nat} {mX35_needs : Nat → Option Nat} {mX35_safe : Nat → Option Nat} {mX35_circle : Nat → Int32} {mX35_known : Nat → Int32} {mX35_holds : Nat → Option Nat} {mX35_rounds : Nat → Option Nat} {mX35_counts : Nat → Option Nat} {mX35_roundCount : Nat → Int32} {mX35_last : Nat → Option Nat} {mX35_next : Nat → Option Nat} {mX35_values : Nat → Option Nat} {mX35_coming : Nat → Option Nat} {mX35_counting : Nat → Option Nat} {mX35_gathering : Nat → Option Nat} {mX35_together : Nat → Option Nat} {mX35_held : Nat → Option Nat} {mX35_work : Nat → Int64} {mX35_large : Nat → Int32} {mX83_head : Nat → Option Nat} {mX83_parts : Nat → Option Nat} {mX83_kind : Nat → Int32} {mX83_variable : Nat → Int32} {mX84_sort : Nat → Int32} {mX84_name : Nat → Int32} {mX84_x : Nat → Int32} {mX84_y : Nat → Int32} {mJ1_modCount : Nat → Int32} {mJ2_elementData : Nat → Option Nat} {mJ2_size : Nat → Int32} {mJ4_words : Nat → Option Nat} {mJ4_wordsInUse : Nat → Int32} {mJ4_sizeIsSticky : Nat → Int32} {a : Nat} {v : Option Nat} (hk : kd a = 1) : va_up (cRE ci d kd an ai al ar mX35_said mX35_rules mX35_strata mX35_needs mX35_safe mX35_circle mX35_known mX35_holds mX35_rounds mX35_counts mX35_roundCount mX35_last mX35_next mX35_values mX35_coming mX35_counting mX35_gathering mX35_together mX35_held mX35_work mX35_large mX83_head mX83_parts mX83_kind mX83_variable mX84_sort mX84_name mX84_x mX84_y mJ1_modCount mJ2_elementData mJ2_size mJ4_words mJ4_wordsInUse mJ4_sizeIsSticky) a (.inr (ci 0, [va_rf (mX35_said a), va_rf (mX35_rules a), va_rf (mX35_strata a), va_rf (mX35_needs a), va_rf v, .int (mX35_circle a), .int (mX35_known a), va_rf (mX35_holds a), va_rf (mX35_rounds a), va_rf (mX35_counts a), .int (mX35_roundCount a), va_rf (mX35_last a), va_rf (mX35_next a), va_rf (mX35_values a), va_rf (mX35_coming a), va_rf (mX35_counting a), va_rf (mX35_gathering a), va_rf (mX35_together a), va_rf (mX35_held a), .long (mX35_work a), .int (mX35_large a)])) = (cRE ci d kd an ai al ar mX35_said mX35_rules mX35_strata mX35_needs (va_up mX35_safe a v) mX35_circle mX35_known mX35_holds mX35_rounds mX35_counts mX35_roundCount mX35_last mX35_next mX35_values mX35_coming mX35_counting mX35_gathering mX35_together mX35_held mX35_work mX35_large mX83_head mX83_parts mX83_kind mX83_variable mX84_sort mX84_name mX84_x mX84_y mJ1_modCount mJ2_elementData mJ2_size mJ4_words mJ4_wordsInUse mJ4_sizeIsSticky) := by
  funext b
  by_cases h : b = a
  · subst h
    rw [va_up_self]
    unfold cRE
    rw [hk]
    simp only [va_up_self]
  · rw [va_up_ne _ _ h]
    unfold cRE
    simp only [va_up_ne _ _ h]
theorem cRE_1_5 {ci : Nat → Nat} {d : Nat → ClassId} {kd : Nat → Nat} {an : Nat → Nat} {ai : Nat → Nat → Int32} {al : Nat → Nat → Int64} {ar : Nat → Nat → Option Nat} {mX35_said : Nat → Option Nat} {mX35_rules : Nat → Option Nat} {mX35_strata : Nat → Option Nat} {mX35_needs : Nat → Option Nat} {mX35_safe : Nat → Option Nat} {mX35_circle : Nat → Int32} {mX35_known : Nat → Int32} {mX35_holds : Nat → Option Nat} {mX35_rounds : Nat → Option Nat} {mX35_counts : Nat → Option Nat} {mX35_roundCount : Nat → Int32} {mX35_last : Nat → Option Nat} {mX35_next : Nat → Option Nat} {mX35_values : Nat → Option Nat} {mX35_coming : Nat → Option Nat} {mX35_counting : Nat → Option Nat} {mX35_gathering : Nat → Option Nat} {mX35_together : Nat → Option Nat} {mX35_held : Nat → Option Nat} {mX35_work : Nat → Int64} {mX35_large : Nat → Int32} {mX83_head : Nat → Option Nat} {mX83_parts : Nat → Option Nat} {mX83_kind : Nat → Int32} {mX83_variable : Nat → Int32} {mX84_sort : Nat → Int32} {mX84_name : Nat → Int32} {mX84_x : Nat → Int32} {mX84_y : Nat → Int32} {mJ1_modCount : Nat → Int32} {mJ2_elementData : Nat → Option Nat} {mJ2_size : Nat → Int32} {mJ4_words : Nat → Option Nat} {mJ4_wordsInUse : Nat → Int32} {mJ4_sizeIsSticky : Nat → Int32} {a : Nat} {v : Int32} (hk : kd a = 1) : va_up (cRE ci d kd an ai al ar mX35_said mX35_rules mX35_strata mX35_needs mX35_safe mX35_circle mX35_known mX35_holds mX35_rounds mX35_counts mX35_roundCount mX35_last mX35_next mX35_values mX35_coming mX35_counting mX35_gathering mX35_together mX35_held mX35_work mX35_large mX83_head mX83_parts mX83_kind mX83_variable mX84_sort mX84_name mX84_x mX84_y mJ1_modCount mJ2_elementData mJ2_size mJ4_words mJ4_wordsInUse mJ4_sizeIsSticky) a (.inr (ci 0, [va_rf (mX35_said a), va_rf (mX35_rules a), va_rf (mX35_strata a), va_rf (mX35_needs a), va_rf (mX35_safe a), .int v, .int (mX35_known a), va_rf (mX35_holds a), va_rf (mX35_rounds a), va_rf (mX35_counts a), .int (mX35_roundCount a), va_rf (mX35_last a), va_rf (mX35_next a), va_rf (mX35_values a), va_rf (mX35_coming a), va_rf (mX35_counting a), va_rf (mX35_gathering a), va_rf (mX35_together a), va_rf (mX35_held a), .long (mX35_work a), .int (mX35_large a)])) = (cRE ci d kd an ai al ar mX35_said mX35_rules mX35_strata mX35_needs mX35_safe (va_up mX35_circle a v) mX35_known mX35_holds mX35_rounds mX35_counts mX35_roundCount mX35_last mX35_next mX35_values mX35_coming mX35_counting mX35_gathering mX35_together mX35_held mX35_work mX35_large mX83_head mX83_parts mX83_kind mX83_variable mX84_sort mX84_name mX84_x mX84_y mJ1_modCount mJ2_elementData mJ2_size mJ4_words mJ4_wordsInUse mJ4_sizeIsSticky) := by
  funext b
  by_cases h : b = a
  · subst h
    rw [va_up_self]
    unfold cRE
    rw [hk]
    simp only [va_up_self]
  · rw [va_up_ne _ _ h]
    unfold cRE
    simp only [va_up_ne _ _ h]
theorem cRE_1_6 {ci : Nat → Nat} {d : Nat → ClassId} {kd : Nat → Nat} {an : Nat → Nat} {ai : Nat → Nat → Int32} {al : Nat → Nat → Int64} {ar : Nat → Nat → Option Nat} {mX35_said : Nat → Option Nat} {mX35_rules : Nat → Option Nat} {mX35_strata : Nat → Option Nat} {mX35_needs : Nat → Option Nat} {mX35_safe : Nat → Option Nat} {mX35_circle : Nat → Int32} {mX35_known : Nat → Int32} {mX35_holds : Nat → Option Nat} {mX35_rounds : Nat → Option Nat} {mX35_counts : Nat → Option Nat} {mX35_roundCount : Nat → Int32} {mX35_last : Nat → Option Nat} {mX35_next : Nat → Option Nat} {mX35_values : Nat → Option Nat} {mX35_coming : Nat → Option Nat} {mX35_counting : Nat → Option Nat} {mX35_gathering : Nat → Option Nat} {mX35_together : Nat → Option Nat} {mX35_held : Nat → Option Nat} {mX35_work : Nat → Int64} {mX35_large : Nat → Int32} {mX83_head : Nat → Option Nat} {mX83_parts : Nat → Option Nat} {mX83_kind : Nat → Int32} {mX83_variable : Nat → Int32} {mX84_sort : Nat → Int32} {mX84_name : Nat → Int32} {mX84_x : Nat → Int32} {mX84_y : Nat → Int32} {mJ1_modCount : Nat → Int32} {mJ2_elementData : Nat → Option Nat} {mJ2_size : Nat → Int32} {mJ4_words : Nat → Option Nat} {mJ4_wordsInUse : Nat → Int32} {mJ4_sizeIsSticky : Nat → Int32} {a : Nat} {v : Int32} (hk : kd a = 1) : va_up (cRE ci d kd an ai al ar mX35_said mX35_rules mX35_strata mX35_needs mX35_safe mX35_circle mX35_known mX35_holds mX35_rounds mX35_counts mX35_roundCount mX35_last mX35_next mX35_values mX35_coming mX35_counting mX35_gathering mX35_together mX35_held mX35_work mX35_large mX83_head mX83_parts mX83_kind mX83_variable mX84_sort mX84_name mX84_x mX84_y mJ1_modCount mJ2_elementData mJ2_size mJ4_words mJ4_wordsInUse mJ4_sizeIsSticky) a (.inr (ci 0, [va_rf (mX35_said a), va_rf (mX35_rules a), va_rf (mX35_strata a), va_rf (mX35_needs a), va_rf (mX35_safe a), .int (mX35_circle a), .int v, va_rf (mX35_holds a), va_rf (mX35_rounds a), va_rf (mX35_counts a), .int (mX35_roundCount a), va_rf (mX35_last a), va_rf (mX35_next a), va_rf (mX35_values a), va_rf (mX35_coming a), va_rf (mX35_counting a), va_rf (mX35_gathering a), va_rf (mX35_together a), va_rf (mX35_held a), .long (mX35_work a), .int (mX35_large a)])) = (cRE ci d kd an ai al ar mX35_said mX35_rules mX35_strata mX35_needs mX35_safe mX35_circle (va_up mX35_known a v) mX35_holds mX35_rounds mX35_counts mX35_roundCount mX35_last mX35_next mX35_values mX35_coming mX35_counting mX35_gathering mX35_together mX35_held mX35_work mX35_large mX83_head mX83_parts mX83_kind mX83_variable mX84_sort mX84_name mX84_x mX84_y mJ1_modCount mJ2_elementData mJ2_size mJ4_words mJ4_wordsInUse mJ4_sizeIsSticky) := by
  funext b
  by_cases h : b = a
  · subst h
    rw [va_up_self]
    unfold cRE
    rw [hk]
    simp only [va_up_self]
  · rw [va_up_ne _ _ h]
    unfold cRE
    simp only [va_up_ne _ _ h]
theorem cRE_1_7 {ci : Nat → Nat} {d : Nat → ClassId} {kd : Nat → Nat} {an : Nat → Nat} {ai : Nat → Nat → Int32} {al : Nat → Nat → Int64} {ar : Nat → Nat → Option Nat} {mX35_said : Nat → Option Nat} {mX35_rules : Nat → Option Nat} {mX35_strata : Nat → Option Nat} {mX35_needs : Nat → Option Nat} {mX35_safe : Nat → Option Nat} {mX35_circle : Nat → Int32} {mX35_known : Nat → Int32} {mX35_holds : Nat → Option Nat} {mX35_rounds : Nat → Option Nat} {mX35_counts : Nat → Option Nat} {mX35_roundCount : Nat → Int32} {mX35_last : Nat → Option Nat} {mX35_next : Nat → Option Nat} {mX35_values : Nat → Option Nat} {mX35_coming : Nat → Option Nat} {mX35_counting : Nat → Option Nat} {mX35_gathering : Nat → Option Nat} {mX35_together : Nat → Option Nat} {mX35_held : Nat → Option Nat} {mX35_work : Nat → Int64} {mX35_large : Nat → Int32} {mX83_head : Nat → Option Nat} {mX83_parts : Nat → Option Nat} {mX83_kind : Nat → Int32} {mX83_variable : Nat → Int32} {mX84_sort : Nat → Int32} {mX84_name : Nat → Int32} {mX84_x : Nat → Int32} {mX84_y : Nat → Int32} {mJ1_modCount : Nat → Int32} {mJ2_elementData : Nat → Option Nat} {mJ2_size : Nat → Int32} {mJ4_words : Nat → Option Nat} {mJ4_wordsInUse : Nat → Int32} {mJ4_sizeIsSticky : Nat → Int32} {a : Nat} {v : Option Nat} (hk : kd a = 1) : va_up (cRE ci d kd an ai al ar mX35_said mX35_rules mX35_strata mX35_needs mX35_safe mX35_circle mX35_known mX35_holds mX35_rounds mX35_counts mX35_roundCount mX35_last mX35_next mX35_values mX35_coming mX35_counting mX35_gathering mX35_together mX35_held mX35_work mX35_large mX83_head mX83_parts mX83_kind mX83_variable mX84_sort mX84_name mX84_x mX84_y mJ1_modCount mJ2_elementData mJ2_size mJ4_words mJ4_wordsInUse mJ4_sizeIsSticky) a (.inr (ci 0, [va_rf (mX35_said a), va_rf (mX35_rules a), va_rf (mX35_strata a), va_rf (mX35_needs a), va_rf (mX35_safe a), .int (mX35_circle a), .int (mX35_known a), va_rf v, va_rf (mX35_rounds a), va_rf (mX35_counts a), .int (mX35_roundCount a), va_rf (mX35_last a), va_rf (mX35_next a), va_rf (mX35_values a), va_rf (mX35_coming a), va_rf (mX35_counting a), va_rf (mX35_gathering a), va_rf (mX35_together a), va_rf (mX35_held a), .long (mX35_work a), .int (mX35_large a)])) = (cRE ci d kd an ai al ar mX35_said mX35_rules mX35_strata mX35_needs mX35_safe mX35_circle mX35_known (va_up mX35_holds a v) mX35_rounds mX35_counts mX35_roundCount mX35_last mX35_next mX35_values mX35_coming mX35_counting mX35_gathering mX35_together mX35_held mX35_work mX35_large mX83_head mX83_parts mX83_kind mX83_variable mX84_sort mX84_name mX84_x mX84_y mJ1_modCount mJ2_elementData mJ2_size mJ4_words mJ4_wordsInUse mJ4_sizeIsSticky) := by
  funext b
  by_cases h : b = a
  · subst h
    rw [va_up_self]
    unfold cRE
    rw [hk]
    simp only [va_up_self]
  · rw [va_up_ne _ _ h]
    unfold cRE
    simp only [va_up_ne _ _ h]
theorem cRE_1_8 {ci : Nat → Nat} {d : Nat → ClassId} {kd : Nat → Nat} {an : Nat → Nat} {ai : Nat → Nat → Int32} {al : Nat → Nat → Int64} {ar : Nat → Nat → Option Nat} {mX35_said : Nat → Option Nat} {mX35_rules : Nat → Option Nat} {mX35_strata : Nat → Option Nat} {mX35_needs : Nat → Option Nat} {mX35_safe : Nat → Option Nat} {mX35_circle : Nat → Int32} {mX35_known : Nat → Int32} {mX35_holds : Nat → Option Nat} {mX35_rounds : Nat → Option Nat} {mX35_counts : Nat → Option Nat} {mX35_roundCount : Nat → Int32} {mX35_last : Nat → Option Nat} {mX35_next : Nat → Option Nat} {mX35_values : Nat → Option Nat} {mX35_coming : Nat → Option Nat} {mX35_counting : Nat → Option Nat} {mX35_gathering : Nat → Option Nat} {mX35_together : Nat → Option Nat} {mX35_held : Nat → Option Nat} {mX35_work : Nat → Int64} {mX35_large : Nat → Int32} {mX83_head : Nat → Option Nat} {mX83_parts : Nat → Option Nat} {mX83_kind : Nat → Int32} {mX83_variable : Nat → Int32} {mX84_sort : Nat → Int32} {mX84_name : Nat → Int32} {mX84_x : Nat → Int32} {mX84_y : Nat → Int32} {mJ1_modCount : Nat → Int32} {mJ2_elementData : Nat → Option Nat} {mJ2_size : Nat → Int32} {mJ4_words : Nat → Option Nat} {mJ4_wordsInUse : Nat → Int32} {mJ4_sizeIsSticky : Nat → Int32} {a : Nat} {v : Option Nat} (hk : kd a = 1) : va_up (cRE ci d kd an ai al ar mX35_said mX35_rules mX35_strata mX35_needs mX35_safe mX35_circle mX35_known mX35_holds mX35_rounds mX35_counts mX35_roundCount mX35_last mX35_next mX35_values mX35_coming mX35_counting mX35_gathering mX35_together mX35_held mX35_work mX35_large mX83_head mX83_parts mX83_kind mX83_variable mX84_sort mX84_name mX84_x mX84_y mJ1_modCount mJ2_elementData mJ2_size mJ4_words mJ4_wordsInUse mJ4_sizeIsSticky) a (.inr (ci 0, [va_rf (mX35_said a), va_rf (mX35_rules a), va_rf (mX35_strata a), va_rf (mX35_needs a), va_rf (mX35_safe a), .int (mX35_circle a), .int (mX35_known a), va_rf (mX35_holds a), va_rf v, va_rf (mX35_counts a), .int (mX35_roundCount a), va_rf (mX35_last a), va_rf (mX35_next a), va_rf (mX35_values a), va_rf (mX35_coming a), va_rf (mX35_counting a), va_rf (mX35_gathering a), va_rf (mX35_together a), va_rf (mX35_held a), .long (mX35_work a), .int (mX35_large a)])) = (cRE ci d kd an ai al ar mX35_said mX35_rules mX35_strata mX35_needs mX35_safe mX35_circle mX35_known mX35_holds (va_up mX35_rounds a v) mX35_counts mX35_roundCount mX35_last mX35_next mX35_values mX35_coming mX35_counting mX35_gathering mX35_together mX35_held mX35_work mX35_large mX83_head mX83_parts mX83_kind mX83_variable mX84_sort mX84_name mX84_x mX84_y mJ1_modCount mJ2_elementData mJ2_size mJ4_words mJ4_wordsInUse mJ4_sizeIsSticky) := by
  funext b
  by_cases h : b = a
  · subst h
    rw [va_up_self]
    unfold cRE
    rw [hk]
    simp only [va_up_self]
  · rw [va_up_ne _ _ h]
    unfold cRE
    simp only [va_up_ne _ _ h]
theorem cRE_1_9 {ci : Nat → Nat} {d : Nat → ClassId} {kd : Nat → Nat} {an : Nat → Nat} {ai : Nat → Nat → Int32} {al : Nat → Nat → Int64} {ar : Nat → Nat → Option Nat} {mX35_said : Nat → Option Nat} {mX35_rules : Nat → Option Nat} {mX35_strata : Nat → Option Nat} {mX35_needs : Nat → Option Nat} {mX35_safe : Nat → Option Nat} {mX35_circle : Nat → Int32} {mX35_known : Nat → Int32} {mX35_holds : Nat → Option Nat} {mX35_rounds : Nat → Option Nat} {mX35_counts : Nat → Option Nat} {mX35_roundCount : Nat → Int32} {mX35_last : Nat → Option Nat} {mX35_next : Nat → Option Nat} {mX35_values : Nat → Option Nat} {mX35_coming : Nat → Option Nat} {mX35_counting : Nat → Option Nat} {mX35_gathering : Nat → Option Nat} {mX35_together : Nat → Option Nat} {mX35_held : Nat → Option Nat} {mX35_work : Nat → Int64} {mX35_large : Nat → Int32} {mX83_head : Nat → Option Nat} {mX83_parts : Nat → Option Nat} {mX83_kind : Nat → Int32} {mX83_variable : Nat → Int32} {mX84_sort : Nat → Int32} {mX84_name : Nat → Int32} {mX84_x : Nat → Int32} {mX84_y : Nat → Int32} {mJ1_modCount : Nat → Int32} {mJ2_elementData : Nat → Option Nat} {mJ2_size : Nat → Int32} {mJ4_words : Nat → Option Nat} {mJ4_wordsInUse : Nat → Int32} {mJ4_sizeIsSticky : Nat → Int32} {a : Nat} {v : Option Nat} (hk : kd a = 1) : va_up (cRE ci d kd an ai al ar mX35_said mX35_rules mX35_strata mX35_needs mX35_safe mX35_circle mX35_known mX35_holds mX35_rounds mX35_counts mX35_roundCount mX35_last mX35_next mX35_values mX35_coming mX35_counting mX35_gathering mX35_together mX35_held mX35_work mX35_large mX83_head mX83_parts mX83_kind mX83_variable mX84_sort mX84_name mX84_x mX84_y mJ1_modCount mJ2_elementData mJ2_size mJ4_words mJ4_wordsInUse mJ4_sizeIsSticky) a (.inr (ci 0, [va_rf (mX35_said a), va_rf (mX35_rules a), va_rf (mX35_strata a), va_rf (mX35_needs a), va_rf (mX35_safe a), .int (mX35_circle a), .int (mX35_known a), va_rf (mX35_holds a), va_rf (mX35_rounds a), va_rf v, .int (mX35_roundCount a), va_rf (mX35_last a), va_rf (mX35_next a), va_rf (mX35_values a), va_rf (mX35_coming a), va_rf (mX35_counting a), va_rf (mX35_gathering a), va_rf (mX35_together a), va_rf (mX35_held a), .long (mX35_work a), .int (mX35_large a)])) = (cRE ci d kd an ai al ar mX35_said mX35_rules mX35_strata mX35_needs mX35_safe mX35_circle mX35_known mX35_holds mX35_rounds (va_up mX35_counts a v) mX35_roundCount mX35_last mX35_next mX35_values mX35_coming mX35_counting mX35_gathering mX35_together mX35_held mX35_work mX35_large mX83_head mX83_parts mX83_kind mX83_variable mX84_sort mX84_name mX84_x mX84_y mJ1_modCount mJ2_elementData mJ2_size mJ4_words mJ4_wordsInUse mJ4_sizeIsSticky) := by
  funext b
  by_cases h : b = a
  · subst h
    rw [va_up_self]
    unfold cRE
    rw [hk]
    simp only [va_up_self]
  · rw [va_up_ne _ _ h]
    unfold cRE
    simp only [va_up_ne _ _ h]
theorem cRE_1_10 {ci : Nat → Nat} {d : Nat → ClassId} {kd : Nat → Nat} {an : Nat → Nat} {ai : Nat → Nat → Int32} {al : Nat → Nat → Int64} {ar : Nat → Nat → Option Nat} {mX35_said : Nat → Option Nat} {mX35_rules : Nat → Option Nat} {mX35_strata : Nat → Option Nat} {mX35_needs : Nat → Option Nat} {mX35_safe : Nat → Option Nat} {mX35_circle : Nat → Int32} {mX35_known : Nat → Int32} {mX35_holds : Nat → Option Nat} {mX35_rounds : Nat → Option Nat} {mX35_counts : Nat → Option Nat} {mX35_roundCount : Nat → Int32} {mX35_last : Nat → Option Nat} {mX35_next : Nat → Option Nat} {mX35_values : Nat → Option Nat} {mX35_coming : Nat → Option Nat} {mX35_counting : Nat → Option Nat} {mX35_gathering : Nat → Option Nat} {mX35_together : Nat → Option Nat} {mX35_held : Nat → Option Nat} {mX35_work : Nat → Int64} {mX35_large : Nat → Int32} {mX83_head : Nat → Option Nat} {mX83_parts : Nat → Option Nat} {mX83_kind : Nat → Int32} {mX83_variable : Nat → Int32} {mX84_sort : Nat → Int32} {mX84_name : Nat → Int32} {mX84_x : Nat → Int32} {mX84_y : Nat → Int32} {mJ1_modCount : Nat → Int32} {mJ2_elementData : Nat → Option Nat} {mJ2_size : Nat → Int32} {mJ4_words : Nat → Option Nat} {mJ4_wordsInUse : Nat → Int32} {mJ4_sizeIsSticky : Nat → Int32} {a : Nat} {v : Int32} (hk : kd a = 1) : va_up (cRE ci d kd an ai al ar mX35_said mX35_rules mX35_strata mX35_needs mX35_safe mX35_circle mX35_known mX35_holds mX35_rounds mX35_counts mX35_roundCount mX35_last mX35_next mX35_values mX35_coming mX35_counting mX35_gathering mX35_together mX35_held mX35_work mX35_large mX83_head mX83_parts mX83_kind mX83_variable mX84_sort mX84_name mX84_x mX84_y mJ1_modCount mJ2_elementData mJ2_size mJ4_words mJ4_wordsInUse mJ4_sizeIsSticky) a (.inr (ci 0, [va_rf (mX35_said a), va_rf (mX35_rules a), va_rf (mX35_strata a), va_rf (mX35_needs a), va_rf (mX35_safe a), .int (mX35_circle a), .int (mX35_known a), va_rf (mX35_holds a), va_rf (mX35_rounds a), va_rf (mX35_counts a), .int v, va_rf (mX35_last a), va_rf (mX35_next a), va_rf (mX35_values a), va_rf (mX35_coming a), va_rf (mX35_counting a), va_rf (mX35_gathering a), va_rf (mX35_together a), va_rf (mX35_held a), .long (mX35_work a), .int (mX35_large a)])) = (cRE ci d kd an ai al ar mX35_said mX35_rules mX35_strata mX35_needs mX35_safe mX35_circle mX35_known mX35_holds mX35_rounds mX35_counts (va_up mX35_roundCount a v) mX35_last mX35_next mX35_values mX35_coming mX35_counting mX35_gathering mX35_together mX35_held mX35_work mX35_large mX83_head mX83_parts mX83_kind mX83_variable mX84_sort mX84_name mX84_x mX84_y mJ1_modCount mJ2_elementData mJ2_size mJ4_words mJ4_wordsInUse mJ4_sizeIsSticky) := by
  funext b
  by_cases h : b = a
  · subst h
    rw [va_up_self]
    unfold cRE
    rw [hk]
    simp only [va_up_self]
  · rw [va_up_ne _ _ h]
    unfold cRE
    simp only [va_up_ne _ _ h]
theorem cRE_1_11 {ci : Nat → Nat} {d : Nat → ClassId} {kd : Nat → Nat} {an : Nat → Nat} {ai : Nat → Nat → Int32} {al : Nat → Nat → Int64} {ar : Nat → Nat → Option Nat} {mX35_said : Nat → Option Nat} {mX35_rules : Nat → Option Nat} {mX35_strata : Nat → Option Nat} {mX35_needs : Nat → Option Nat} {mX35_safe : Nat → Option Nat} {mX35_circle : Nat → Int32} {mX35_known : Nat → Int32} {mX35_holds : Nat → Option Nat} {mX35_rounds : Nat → Option Nat} {mX35_counts : Nat → Option Nat} {mX35_roundCount : Nat → Int32} {mX35_last : Nat → Option Nat} {mX35_next : Nat → Option Nat} {mX35_values : Nat → Option Nat} {mX35_coming : Nat → Option Nat} {mX35_counting : Nat → Option Nat} {mX35_gathering : Nat → Option Nat} {mX35_together : Nat → Option Nat} {mX35_held : Nat → Option Nat} {mX35_work : Nat → Int64} {mX35_large : Nat → Int32} {mX83_head : Nat → Option Nat} {mX83_parts : Nat → Option Nat} {mX83_kind : Nat → Int32} {mX83_variable : Nat → Int32} {mX84_sort : Nat → Int32} {mX84_name : Nat → Int32} {mX84_x : Nat → Int32} {mX84_y : Nat → Int32} {mJ1_modCount : Nat → Int32} {mJ2_elementData : Nat → Option Nat} {mJ2_size : Nat → Int32} {mJ4_words : Nat → Option Nat} {mJ4_wordsInUse : Nat → Int32} {mJ4_sizeIsSticky : Nat → Int32} {a : Nat} {v : Option Nat} (hk : kd a = 1) : va_up (cRE ci d kd an ai al ar mX35_said mX35_rules mX35_strata mX35_needs mX35_safe mX35_circle mX35_known mX35_holds mX35_rounds mX35_counts mX35_roundCount mX35_last mX35_next mX35_values mX35_coming mX35_counting mX35_gathering mX35_together mX35_held mX35_work mX35_large mX83_head mX83_parts mX83_kind mX83_variable mX84_sort mX84_name mX84_x mX84_y mJ1_modCount mJ2_elementData mJ2_size mJ4_words mJ4_wordsInUse mJ4_sizeIsSticky) a (.inr (ci 0, [va_rf (mX35_said a), va_rf (mX35_rules a), va_rf (mX35_strata a), va_rf (mX35_needs a), va_rf (mX35_safe a), .int (mX35_circle a), .int (mX35_known a), va_rf (mX35_holds a), va_rf (mX35_rounds a), va_rf (mX35_counts a), .int (mX35_roundCount a), va_rf v, va_rf (mX35_next a), va_rf (mX35_values a), va_rf (mX35_coming a), va_rf (mX35_counting a), va_rf (mX35_gathering a), va_rf (mX35_together a), va_rf (mX35_held a), .long (mX35_work a), .int (mX35_large a)])) = (cRE ci d kd an ai al ar mX35_said mX35_rules mX35_strata mX35_needs mX35_safe mX35_circle mX35_known mX35_holds mX35_rounds mX35_counts mX35_roundCount (va_up mX35_last a v) mX35_next mX35_values mX35_coming mX35_counting mX35_gathering mX35_together mX35_held mX35_work mX35_large mX83_head mX83_parts mX83_kind mX83_variable mX84_sort mX84_name mX84_x mX84_y mJ1_modCount mJ2_elementData mJ2_size mJ4_words mJ4_wordsInUse mJ4_sizeIsSticky) := by
  funext b
  by_cases h : b = a
  · subst h
    rw [va_up_self]
    unfold cRE
    rw [hk]
    simp only [va_up_self]
  · rw [va_up_ne _ _ h]
    unfold cRE
    simp only [va_up_ne _ _ h]
theorem cRE_1_12 {ci : Nat → Nat} {d : Nat → ClassId} {kd : Nat → Nat} {an : Nat → Nat} {ai : Nat → Nat → Int32} {al : Nat → Nat → Int64} {ar : Nat → Nat → Option Nat} {mX35_said : Nat → Option Nat} {mX35_rules : Nat → Option Nat} {mX35_strata : Nat → Option Nat} {mX35_needs : Nat → Option Nat} {mX35_safe : Nat → Option Nat} {mX35_circle : Nat → Int32} {mX35_known : Nat → Int32} {mX35_holds : Nat → Option Nat} {mX35_rounds : Nat → Option Nat} {mX35_counts : Nat → Option Nat} {mX35_roundCount : Nat → Int32} {mX35_last : Nat → Option Nat} {mX35_next : Nat → Option Nat} {mX35_values : Nat → Option Nat} {mX35_coming : Nat → Option Nat} {mX35_counting : Nat → Option Nat} {mX35_gathering : Nat → Option Nat} {mX35_together : Nat → Option Nat} {mX35_held : Nat → Option Nat} {mX35_work : Nat → Int64} {mX35_large : Nat → Int32} {mX83_head : Nat → Option Nat} {mX83_parts : Nat → Option Nat} {mX83_kind : Nat → Int32} {mX83_variable : Nat → Int32} {mX84_sort : Nat → Int32} {mX84_name : Nat → Int32} {mX84_x : Nat → Int32} {mX84_y : Nat → Int32} {mJ1_modCount : Nat → Int32} {mJ2_elementData : Nat → Option Nat} {mJ2_size : Nat → Int32} {mJ4_words : Nat → Option Nat} {mJ4_wordsInUse : Nat → Int32} {mJ4_sizeIsSticky : Nat → Int32} {a : Nat} {v : Option Nat} (hk : kd a = 1) : va_up (cRE ci d kd an ai al ar mX35_said mX35_rules mX35_strata mX35_needs mX35_safe mX35_circle mX35_known mX35_holds mX35_rounds mX35_counts mX35_roundCount mX35_last mX35_next mX35_values mX35_coming mX35_counting mX35_gathering mX35_together mX35_held mX35_work mX35_large mX83_head mX83_parts mX83_kind mX83_variable mX84_sort mX84_name mX84_x mX84_y mJ1_modCount mJ2_elementData mJ2_size mJ4_words mJ4_wordsInUse mJ4_sizeIsSticky) a (.inr (ci 0, [va_rf (mX35_said a), va_rf (mX35_rules a), va_rf (mX35_strata a), va_rf (mX35_needs a), va_rf (mX35_safe a), .int (mX35_circle a), .int (mX35_known a), va_rf (mX35_holds a), va_rf (mX35_rounds a), va_rf (mX35_counts a), .int (mX35_roundCount a), va_rf (mX35_last a), va_rf v, va_rf (mX35_values a), va_rf (mX35_coming a), va_rf (mX35_counting a), va_rf (mX35_gathering a), va_rf (mX35_together a), va_rf (mX35_held a), .long (mX35_work a), .int (mX35_large a)])) = (cRE ci d kd an ai al ar mX35_said mX35_rules mX35_strata mX35_needs mX35_safe mX35_circle mX35_known mX35_holds mX35_rounds mX35_counts mX35_roundCount mX35_last (va_up mX35_next a v) mX35_values mX35_coming mX35_counting mX35_gathering mX35_together mX35_held mX35_work mX35_large mX83_head mX83_parts mX83_kind mX83_variable mX84_sort mX84_name mX84_x mX84_y mJ1_modCount mJ2_elementData mJ2_size mJ4_words mJ4_wordsInUse mJ4_sizeIsSticky) := by
  funext b
  by_cases h : b = a
  · subst h
    rw [va_up_self]
    unfold cRE
    rw [hk]
    simp only [va_up_self]
  · rw [va_up_ne _ _ h]
    unfold cRE
    simp only [va_up_ne _ _ h]
theorem cRE_1_13 {ci : Nat → Nat} {d : Nat → ClassId} {kd : Nat → Nat} {an : Nat → Nat} {ai : Nat → Nat → Int32} {al : Nat → Nat → Int64} {ar : Nat → Nat → Option Nat} {mX35_said : Nat → Option Nat} {mX35_rules : Nat → Option Nat} {mX35_strata : Nat → Option Nat} {mX35_needs : Nat → Option Nat} {mX35_safe : Nat → Option Nat} {mX35_circle : Nat → Int32} {mX35_known : Nat → Int32} {mX35_holds : Nat → Option Nat} {mX35_rounds : Nat → Option Nat} {mX35_counts : Nat → Option Nat} {mX35_roundCount : Nat → Int32} {mX35_last : Nat → Option Nat} {mX35_next : Nat → Option Nat} {mX35_values : Nat → Option Nat} {mX35_coming : Nat → Option Nat} {mX35_counting : Nat → Option Nat} {mX35_gathering : Nat → Option Nat} {mX35_together : Nat → Option Nat} {mX35_held : Nat → Option Nat} {mX35_work : Nat → Int64} {mX35_large : Nat → Int32} {mX83_head : Nat → Option Nat} {mX83_parts : Nat → Option Nat} {mX83_kind : Nat → Int32} {mX83_variable : Nat → Int32} {mX84_sort : Nat → Int32} {mX84_name : Nat → Int32} {mX84_x : Nat → Int32} {mX84_y : Nat → Int32} {mJ1_modCount : Nat → Int32} {mJ2_elementData : Nat → Option Nat} {mJ2_size : Nat → Int32} {mJ4_words : Nat → Option Nat} {mJ4_wordsInUse : Nat → Int32} {mJ4_sizeIsSticky : Nat → Int32} {a : Nat} {v : Option Nat} (hk : kd a = 1) : va_up (cRE ci d kd an ai al ar mX35_said mX35_rules mX35_strata mX35_needs mX35_safe mX35_circle mX35_known mX35_holds mX35_rounds mX35_counts mX35_roundCount mX35_last mX35_next mX35_values mX35_coming mX35_counting mX35_gathering mX35_together mX35_held mX35_work mX35_large mX83_head mX83_parts mX83_kind mX83_variable mX84_sort mX84_name mX84_x mX84_y mJ1_modCount mJ2_elementData mJ2_size mJ4_words mJ4_wordsInUse mJ4_sizeIsSticky) a (.inr (ci 0, [va_rf (mX35_said a), va_rf (mX35_rules a), va_rf (mX35_strata a), va_rf (mX35_needs a), va_rf (mX35_safe a), .int (mX35_circle a), .int (mX35_known a), va_rf (mX35_holds a), va_rf (mX35_rounds a), va_rf (mX35_counts a), .int (mX35_roundCount a), va_rf (mX35_last a), va_rf (mX35_next a), va_rf v, va_rf (mX35_coming a), va_rf (mX35_counting a), va_rf (mX35_gathering a), va_rf (mX35_together a), va_rf (mX35_held a), .long (mX35_work a), .int (mX35_large a)])) = (cRE ci d kd an ai al ar mX35_said mX35_rules mX35_strata mX35_needs mX35_safe mX35_circle mX35_known mX35_holds mX35_rounds mX35_counts mX35_roundCount mX35_last mX35_next (va_up mX35_values a v) mX35_coming mX35_counting mX35_gathering mX35_together mX35_held mX35_work mX35_large mX83_head mX83_parts mX83_kind mX83_variable mX84_sort mX84_name mX84_x mX84_y mJ1_modCount mJ2_elementData mJ2_size mJ4_words mJ4_wordsInUse mJ4_sizeIsSticky) := by
  funext b
  by_cases h : b = a
  · subst h
    rw [va_up_self]
    unfold cRE
    rw [hk]
    simp only [va_up_self]
  · rw [va_up_ne _ _ h]
    unfold cRE
    simp only [va_up_ne _ _ h]
theorem cRE_1_14 {ci : Nat → Nat} {d : Nat → ClassId} {kd : Nat → Nat} {an : Nat → Nat} {ai : Nat → Nat → Int32} {al : Nat → Nat → Int64} {ar : Nat → Nat → Option Nat} {mX35_said : Nat → Option Nat} {mX35_rules : Nat → Option Nat} {mX35_strata : Nat → Option Nat} {mX35_needs : Nat → Option Nat} {mX35_safe : Nat → Option Nat} {mX35_circle : Nat → Int32} {mX35_known : Nat → Int32} {mX35_holds : Nat → Option Nat} {mX35_rounds : Nat → Option Nat} {mX35_counts : Nat → Option Nat} {mX35_roundCount : Nat → Int32} {mX35_last : Nat → Option Nat} {mX35_next : Nat → Option Nat} {mX35_values : Nat → Option Nat} {mX35_coming : Nat → Option Nat} {mX35_counting : Nat → Option Nat} {mX35_gathering : Nat → Option Nat} {mX35_together : Nat → Option Nat} {mX35_held : Nat → Option Nat} {mX35_work : Nat → Int64} {mX35_large : Nat → Int32} {mX83_head : Nat → Option Nat} {mX83_parts : Nat → Option Nat} {mX83_kind : Nat → Int32} {mX83_variable : Nat → Int32} {mX84_sort : Nat → Int32} {mX84_name : Nat → Int32} {mX84_x : Nat → Int32} {mX84_y : Nat → Int32} {mJ1_modCount : Nat → Int32} {mJ2_elementData : Nat → Option Nat} {mJ2_size : Nat → Int32} {mJ4_words : Nat → Option Nat} {mJ4_wordsInUse : Nat → Int32} {mJ4_sizeIsSticky : Nat → Int32} {a : Nat} {v : Option Nat} (hk : kd a = 1) : va_up (cRE ci d kd an ai al ar mX35_said mX35_rules mX35_strata mX35_needs mX35_safe mX35_circle mX35_known mX35_holds mX35_rounds mX35_counts mX35_roundCount mX35_last mX35_next mX35_values mX35_coming mX35_counting mX35_gathering mX35_together mX35_held mX35_work mX35_large mX83_head mX83_parts mX83_kind mX83_variable mX84_sort mX84_name mX84_x mX84_y mJ1_modCount mJ2_elementData mJ2_size mJ4_words mJ4_wordsInUse mJ4_sizeIsSticky) a (.inr (ci 0, [va_rf (mX35_said a), va_rf (mX35_rules a), va_rf (mX35_strata a), va_rf (mX35_needs a), va_rf (mX35_safe a), .int (mX35_circle a), .int (mX35_known a), va_rf (mX35_holds a), va_rf (mX35_rounds a), va_rf (mX35_counts a), .int (mX35_roundCount a), va_rf (mX35_last a), va_rf (mX35_next a), va_rf (mX35_values a), va_rf v, va_rf (mX35_counting a), va_rf (mX35_gathering a), va_rf (mX35_together a), va_rf (mX35_held a), .long (mX35_work a), .int (mX35_large a)])) = (cRE ci d kd an ai al ar mX35_said mX35_rules mX35_strata mX35_needs mX35_safe mX35_circle mX35_known mX35_holds mX35_rounds mX35_counts mX35_roundCount mX35_last mX35_next mX35_values (va_up mX35_coming a v) mX35_counting mX35_gathering mX35_together mX35_held mX35_work mX35_large mX83_head mX83_parts mX83_kind mX83_variable mX84_sort mX84_name mX84_x mX84_y mJ1_modCount mJ2_elementData mJ2_size mJ4_words mJ4_wordsInUse mJ4_sizeIsSticky) := by
  funext b
  by_cases h : b = a
  · subst h
    rw [va_up_self]
    unfold cRE
    rw [hk]
    simp only [va_up_self]
  · rw [va_up_ne _ _ h]
    unfold cRE
    simp only [va_up_ne _ _ h]
theorem cRE_1_15 {ci : Nat → Nat} {d : Nat → ClassId} {kd : Nat → Nat} {an : Nat → Nat} {ai : Nat → Nat → Int32} {al : Nat → Nat → Int64} {ar : Nat → Nat → Option Nat} {mX35_said : Nat → Option Nat} {mX35_rules : Nat → Option Nat} {mX35_strata : Nat → Option Nat} {mX35_needs : Nat → Option Nat} {mX35_safe : Nat → Option Nat} {mX35_circle : Nat → Int32} {mX35_known : Nat → Int32} {mX35_holds : Nat → Option Nat} {mX35_rounds : Nat → Option Nat} {mX35_counts : Nat → Option Nat} {mX35_roundCount : Nat → Int32} {mX35_last : Nat → Option Nat} {mX35_next : Nat → Option Nat} {mX35_values : Nat → Option Nat} {mX35_coming : Nat → Option Nat} {mX35_counting : Nat → Option Nat} {mX35_gathering : Nat → Option Nat} {mX35_together : Nat → Option Nat} {mX35_held : Nat → Option Nat} {mX35_work : Nat → Int64} {mX35_large : Nat → Int32} {mX83_head : Nat → Option Nat} {mX83_parts : Nat → Option Nat} {mX83_kind : Nat → Int32} {mX83_variable : Nat → Int32} {mX84_sort : Nat → Int32} {mX84_name : Nat → Int32} {mX84_x : Nat → Int32} {mX84_y : Nat → Int32} {mJ1_modCount : Nat → Int32} {mJ2_elementData : Nat → Option Nat} {mJ2_size : Nat → Int32} {mJ4_words : Nat → Option Nat} {mJ4_wordsInUse : Nat → Int32} {mJ4_sizeIsSticky : Nat → Int32} {a : Nat} {v : Option Nat} (hk : kd a = 1) : va_up (cRE ci d kd an ai al ar mX35_said mX35_rules mX35_strata mX35_needs mX35_safe mX35_circle mX35_known mX35_holds mX35_rounds mX35_counts mX35_roundCount mX35_last mX35_next mX35_values mX35_coming mX35_counting mX35_gathering mX35_together mX35_held mX35_work mX35_large mX83_head mX83_parts mX83_kind mX83_variable mX84_sort mX84_name mX84_x mX84_y mJ1_modCount mJ2_elementData mJ2_size mJ4_words mJ4_wordsInUse mJ4_sizeIsSticky) a (.inr (ci 0, [va_rf (mX35_said a), va_rf (mX35_rules a), va_rf (mX35_strata a), va_rf (mX35_needs a), va_rf (mX35_safe a), .int (mX35_circle a), .int (mX35_known a), va_rf (mX35_holds a), va_rf (mX35_rounds a), va_rf (mX35_counts a), .int (mX35_roundCount a), va_rf (mX35_last a), va_rf (mX35_next a), va_rf (mX35_values a), va_rf (mX35_coming a), va_rf v, va_rf (mX35_gathering a), va_rf (mX35_together a), va_rf (mX35_held a), .long (mX35_work a), .int (mX35_large a)])) = (cRE ci d kd an ai al ar mX35_said mX35_rules mX35_strata mX35_needs mX35_safe mX35_circle mX35_known mX35_holds mX35_rounds mX35_counts mX35_roundCount mX35_last mX35_next mX35_values mX35_coming (va_up mX35_counting a v) mX35_gathering mX35_together mX35_held mX35_work mX35_large mX83_head mX83_parts mX83_kind mX83_variable mX84_sort mX84_name mX84_x mX84_y mJ1_modCount mJ2_elementData mJ2_size mJ4_words mJ4_wordsInUse mJ4_sizeIsSticky) := by
  funext b
  by_cases h : b = a
  · subst h
    rw [va_up_self]
    unfold cRE
    rw [hk]
    simp only [va_up_self]
  · rw [va_up_ne _ _ h]
    unfold cRE
    simp only [va_up_ne _ _ h]
theorem cRE_1_16 {ci : Nat → Nat} {d : Nat → ClassId} {kd : Nat → Nat} {an : Nat → Nat} {ai : Nat → Nat → Int32} {al : Nat → Nat → Int64} {ar : Nat → Nat → Option Nat} {mX35_said : Nat → Option Nat} {mX35_rules : Nat → Option Nat} {mX35_strata : Nat → Option Nat} {mX35_needs : Nat → Option Nat} {mX35_safe : Nat → Option Nat} {mX35_circle : Nat → Int32} {mX35_known : Nat → Int32} {mX35_holds : Nat → Option Nat} {mX35_rounds : Nat → Option Nat} {mX35_counts : Nat → Option Nat} {mX35_roundCount : Nat → Int32} {mX35_last : Nat → Option Nat} {mX35_next : Nat → Option Nat} {mX35_values : Nat → Option Nat} {mX35_coming : Nat → Option Nat} {mX35_counting : Nat → Option Nat} {mX35_gathering : Nat → Option Nat} {mX35_together : Nat → Option Nat} {mX35_held : Nat → Option Nat} {mX35_work : Nat → Int64} {mX35_large : Nat → Int32} {mX83_head : Nat → Option Nat} {mX83_parts : Nat → Option Nat} {mX83_kind : Nat → Int32} {mX83_variable : Nat → Int32} {mX84_sort : Nat → Int32} {mX84_name : Nat → Int32} {mX84_x : Nat → Int32} {mX84_y : Nat → Int32} {mJ1_modCount : Nat → Int32} {mJ2_elementData : Nat → Option Nat} {mJ2_size : Nat → Int32} {mJ4_words : Nat → Option Nat} {mJ4_wordsInUse : Nat → Int32} {mJ4_sizeIsSticky : Nat → Int32} {a : Nat} {v : Option Nat} (hk : kd a = 1) : va_up (cRE ci d kd an ai al ar mX35_said mX35_rules mX35_strata mX35_needs mX35_safe mX35_circle mX35_known mX35_holds mX35_rounds mX35_counts mX35_roundCount mX35_last mX35_next mX35_values mX35_coming mX35_counting mX35_gathering mX35_together mX35_held mX35_work mX35_large mX83_head mX83_parts mX83_kind mX83_variable mX84_sort mX84_name mX84_x mX84_y mJ1_modCount mJ2_elementData mJ2_size mJ4_words mJ4_wordsInUse mJ4_sizeIsSticky) a (.inr (ci 0, [va_rf (mX35_said a), va_rf (mX35_rules a), va_rf (mX35_strata a), va_rf (mX35_needs a), va_rf (mX35_safe a), .int (mX35_circle a), .int (mX35_known a), va_rf (mX35_holds a), va_rf (mX35_rounds a), va_rf (mX35_counts a), .int (mX35_roundCount a), va_rf (mX35_last a), va_rf (mX35_next a), va_rf (mX35_values a), va_rf (mX35_coming a), va_rf (mX35_counting a), va_rf v, va_rf (mX35_together a), va_rf (mX35_held a), .long (mX35_work a), .int (mX35_large a)])) = (cRE ci d kd an ai al ar mX35_said mX35_rules mX35_strata mX35_needs mX35_safe mX35_circle mX35_known mX35_holds mX35_rounds mX35_counts mX35_roundCount mX35_last mX35_next mX35_values mX35_coming mX35_counting (va_up mX35_gathering a v) mX35_together mX35_held mX35_work mX35_large mX83_head mX83_parts mX83_kind mX83_variable mX84_sort mX84_name mX84_x mX84_y mJ1_modCount mJ2_elementData mJ2_size mJ4_words mJ4_wordsInUse mJ4_sizeIsSticky) := by
  funext b
  by_cases h : b = a
  · subst h
    rw [va_up_self]
    unfold cRE
    rw [hk]
    simp only [va_up_self]
  · rw [va_up_ne _ _ h]
    unfold cRE
    simp only [va_up_ne _ _ h]
theorem cRE_1_17 {ci : Nat → Nat} {d : Nat → ClassId} {kd : Nat → Nat} {an : Nat → Nat} {ai : Nat → Nat → Int32} {al : Nat → Nat → Int64} {ar : Nat → Nat → Option Nat} {mX35_said : Nat → Option Nat} {mX35_rules : Nat → Option Nat} {mX35_strata : Nat → Option Nat} {mX35_needs : Nat → Option Nat} {mX35_safe : Nat → Option Nat} {mX35_circle : Nat → Int32} {mX35_known : Nat → Int32} {mX35_holds : Nat → Option Nat} {mX35_rounds : Nat → Option Nat} {mX35_counts : Nat → Option Nat} {mX35_roundCount : Nat → Int32} {mX35_last : Nat → Option Nat} {mX35_next : Nat → Option Nat} {mX35_values : Nat → Option Nat} {mX35_coming : Nat → Option Nat} {mX35_counting : Nat → Option Nat} {mX35_gathering : Nat → Option Nat} {mX35_together : Nat → Option Nat} {mX35_held : Nat → Option Nat} {mX35_work : Nat → Int64} {mX35_large : Nat → Int32} {mX83_head : Nat → Option Nat} {mX83_parts : Nat → Option Nat} {mX83_kind : Nat → Int32} {mX83_variable : Nat → Int32} {mX84_sort : Nat → Int32} {mX84_name : Nat → Int32} {mX84_x : Nat → Int32} {mX84_y : Nat → Int32} {mJ1_modCount : Nat → Int32} {mJ2_elementData : Nat → Option Nat} {mJ2_size : Nat → Int32} {mJ4_words : Nat → Option Nat} {mJ4_wordsInUse : Nat → Int32} {mJ4_sizeIsSticky : Nat → Int32} {a : Nat} {v : Option Nat} (hk : kd a = 1) : va_up (cRE ci d kd an ai al ar mX35_said mX35_rules mX35_strata mX35_needs mX35_safe mX35_circle mX35_known mX35_holds mX35_rounds mX35_counts mX35_roundCount mX35_last mX35_next mX35_values mX35_coming mX35_counting mX35_gathering mX35_together mX35_held mX35_work mX35_large mX83_head mX83_parts mX83_kind mX83_variable mX84_sort mX84_name mX84_x mX84_y mJ1_modCount mJ2_elementData mJ2_size mJ4_words mJ4_wordsInUse mJ4_sizeIsSticky) a (.inr (ci 0, [va_rf (mX35_said a), va_rf (mX35_rules a), va_rf (mX35_strata a), va_rf (mX35_needs a), va_rf (mX35_safe a), .int (mX35_circle a), .int (mX35_known a), va_rf (mX35_holds a), va_rf (mX35_rounds a), va_rf (mX35_counts a), .int (mX35_roundCount a), va_rf (mX35_last a), va_rf (mX35_next a), va_rf (mX35_values a), va_rf (mX35_coming a), va_rf (mX35_counting a), va_rf (mX35_gathering a), va_rf v, va_rf (mX35_held a), .long (mX35_work a), .int (mX35_large a)])) = (cRE ci d kd an ai al ar mX35_said mX35_rules mX35_strata mX35_needs mX35_safe mX35_circle mX35_known mX35_holds mX35_rounds mX35_counts mX35_roundCount mX35_last mX35_next mX35_values mX35_coming mX35_counting mX35_gathering (va_up mX35_together a v) mX35_held mX35_work mX35_large mX83_head mX83_parts mX83_kind mX83_variable mX84_sort mX84_name mX84_x mX84_y mJ1_modCount mJ2_elementData mJ2_size mJ4_words mJ4_wordsInUse mJ4_sizeIsSticky) := by
  funext b
  by_cases h : b = a
  · subst h
    rw [va_up_self]
    unfold cRE
    rw [hk]
    simp only [va_up_self]
  · rw [va_up_ne _ _ h]
    unfold cRE
    simp only [va_up_ne _ _ h]
theorem cRE_1_18 {ci : Nat → Nat} {d : Nat → ClassId} {kd : Nat → Nat} {an : Nat → Nat} {ai : Nat → Nat → Int32} {al : Nat → Nat → Int64} {ar : Nat → Nat → Option Nat} {mX35_said : Nat → Option Nat} {mX35_rules : Nat → Option Nat} {mX35_strata : Nat → Option Nat} {mX35_needs : Nat → Option Nat} {mX35_safe : Nat → Option Nat} {mX35_circle : Nat → Int32} {mX35_known : Nat → Int32} {mX35_holds : Nat → Option Nat} {mX35_rounds : Nat → Option Nat} {mX35_counts : Nat → Option Nat} {mX35_roundCount : Nat → Int32} {mX35_last : Nat → Option Nat} {mX35_next : Nat → Option Nat} {mX35_values : Nat → Option Nat} {mX35_coming : Nat → Option Nat} {mX35_counting : Nat → Option Nat} {mX35_gathering : Nat → Option Nat} {mX35_together : Nat → Option Nat} {mX35_held : Nat → Option Nat} {mX35_work : Nat → Int64} {mX35_large : Nat → Int32} {mX83_head : Nat → Option Nat} {mX83_parts : Nat → Option Nat} {mX83_kind : Nat → Int32} {mX83_variable : Nat → Int32} {mX84_sort : Nat → Int32} {mX84_name : Nat → Int32} {mX84_x : Nat → Int32} {mX84_y : Nat → Int32} {mJ1_modCount : Nat → Int32} {mJ2_elementData : Nat → Option Nat} {mJ2_size : Nat → Int32} {mJ4_words : Nat → Option Nat} {mJ4_wordsInUse : Nat → Int32} {mJ4_sizeIsSticky : Nat → Int32} {a : Nat} {v : Option Nat} (hk : kd a = 1) : va_up (cRE ci d kd an ai al ar mX35_said mX35_rules mX35_strata mX35_needs mX35_safe mX35_circle mX35_known mX35_holds mX35_rounds mX35_counts mX35_roundCount mX35_last mX35_next mX35_values mX35_coming mX35_counting mX35_gathering mX35_together mX35_held mX35_work mX35_large mX83_head mX83_parts mX83_kind mX83_variable mX84_sort mX84_name mX84_x mX84_y mJ1_modCount mJ2_elementData mJ2_size mJ4_words mJ4_wordsInUse mJ4_sizeIsSticky) a (.inr (ci 0, [va_rf (mX35_said a), va_rf (mX35_rules a), va_rf (mX35_strata a), va_rf (mX35_needs a), va_rf (mX35_safe a), .int (mX35_circle a), .int (mX35_known a), va_rf (mX35_holds a), va_rf (mX35_rounds a), va_rf (mX35_counts a), .int (mX35_roundCount a), va_rf (mX35_last a), va_rf (mX35_next a), va_rf (mX35_values a), va_rf (mX35_coming a), va_rf (mX35_counting a), va_rf (mX35_gathering a), va_rf (mX35_together a), va_rf v, .long (mX35_work a), .int (mX35_large a)])) = (cRE ci d kd an ai al ar mX35_said mX35_rules mX35_strata mX35_needs mX35_safe mX35_circle mX35_known mX35_holds mX35_rounds mX35_counts mX35_roundCount mX35_last mX35_next mX35_values mX35_coming mX35_counting mX35_gathering mX35_together (va_up mX35_held a v) mX35_work mX35_large mX83_head mX83_parts mX83_kind mX83_variable mX84_sort mX84_name mX84_x mX84_y mJ1_modCount mJ2_elementData mJ2_size mJ4_words mJ4_wordsInUse mJ4_sizeIsSticky) := by
  funext b
  by_cases h : b = a
  · subst h
    rw [va_up_self]
    unfold cRE
    rw [hk]
    simp only [va_up_self]
  · rw [va_up_ne _ _ h]
    unfold cRE
    simp only [va_up_ne _ _ h]
theorem cRE_1_19 {ci : Nat → Nat} {d : Nat → ClassId} {kd : Nat → Nat} {an : Nat → Nat} {ai : Nat → Nat → Int32} {al : Nat → Nat → Int64} {ar : Nat → Nat → Option Nat} {mX35_said : Nat → Option Nat} {mX35_rules : Nat → Option Nat} {mX35_strata : Nat → Option Nat} {mX35_needs : Nat → Option Nat} {mX35_safe : Nat → Option Nat} {mX35_circle : Nat → Int32} {mX35_known : Nat → Int32} {mX35_holds : Nat → Option Nat} {mX35_rounds : Nat → Option Nat} {mX35_counts : Nat → Option Nat} {mX35_roundCount : Nat → Int32} {mX35_last : Nat → Option Nat} {mX35_next : Nat → Option Nat} {mX35_values : Nat → Option Nat} {mX35_coming : Nat → Option Nat} {mX35_counting : Nat → Option Nat} {mX35_gathering : Nat → Option Nat} {mX35_together : Nat → Option Nat} {mX35_held : Nat → Option Nat} {mX35_work : Nat → Int64} {mX35_large : Nat → Int32} {mX83_head : Nat → Option Nat} {mX83_parts : Nat → Option Nat} {mX83_kind : Nat → Int32} {mX83_variable : Nat → Int32} {mX84_sort : Nat → Int32} {mX84_name : Nat → Int32} {mX84_x : Nat → Int32} {mX84_y : Nat → Int32} {mJ1_modCount : Nat → Int32} {mJ2_elementData : Nat → Option Nat} {mJ2_size : Nat → Int32} {mJ4_words : Nat → Option Nat} {mJ4_wordsInUse : Nat → Int32} {mJ4_sizeIsSticky : Nat → Int32} {a : Nat} {v : Int64} (hk : kd a = 1) : va_up (cRE ci d kd an ai al ar mX35_said mX35_rules mX35_strata mX35_needs mX35_safe mX35_circle mX35_known mX35_holds mX35_rounds mX35_counts mX35_roundCount mX35_last mX35_next mX35_values mX35_coming mX35_counting mX35_gathering mX35_together mX35_held mX35_work mX35_large mX83_head mX83_parts mX83_kind mX83_variable mX84_sort mX84_name mX84_x mX84_y mJ1_modCount mJ2_elementData mJ2_size mJ4_words mJ4_wordsInUse mJ4_sizeIsSticky) a (.inr (ci 0, [va_rf (mX35_said a), va_rf (mX35_rules a), va_rf (mX35_strata a), va_rf (mX35_needs a), va_rf (mX35_safe a), .int (mX35_circle a), .int (mX35_known a), va_rf (mX35_holds a), va_rf (mX35_rounds a), va_rf (mX35_counts a), .int (mX35_roundCount a), va_rf (mX35_last a), va_rf (mX35_next a), va_rf (mX35_values a), va_rf (mX35_coming a), va_rf (mX35_counting a), va_rf (mX35_gathering a), va_rf (mX35_together a), va_rf (mX35_held a), .long v, .int (mX35_large a)])) = (cRE ci d kd an ai al ar mX35_said mX35_rules mX35_strata mX35_needs mX35_safe mX35_circle mX35_known mX35_holds mX35_rounds mX35_counts mX35_roundCount mX35_last mX35_next mX35_values mX35_coming mX35_counting mX35_gathering mX35_together mX35_held (va_up mX35_work a v) mX35_large mX83_head mX83_parts mX83_kind mX83_variable mX84_sort mX84_name mX84_x mX84_y mJ1_modCount mJ2_elementData mJ2_size mJ4_words mJ4_wordsInUse mJ4_sizeIsSticky) := by
  funext b
  by_cases h : b = a
  · subst h
    rw [va_up_self]
    unfold cRE
    rw [hk]
    simp only [va_up_self]
  · rw [va_up_ne _ _ h]
    unfold cRE
    simp only [va_up_ne _ _ h]
theorem cRE_1_20 {ci : Nat → Nat} {d : Nat → ClassId} {kd : Nat → Nat} {an : Nat → Nat} {ai : Nat → Nat → Int32} {al : Nat → Nat → Int64} {ar : Nat → Nat → Option Nat} {mX35_said : Nat → Option Nat} {mX35_rules : Nat → Option Nat} {mX35_strata : Nat → Option Nat} {mX35_needs : Nat → Option Nat} {mX35_safe : Nat → Option Nat} {mX35_circle : Nat → Int32} {mX35_known : Nat → Int32} {mX35_holds : Nat → Option Nat} {mX35_rounds : Nat → Option Nat} {mX35_counts : Nat → Option Nat} {mX35_roundCount : Nat → Int32} {mX35_last : Nat → Option Nat} {mX35_next : Nat → Option Nat} {mX35_values : Nat → Option Nat} {mX35_coming : Nat → Option Nat} {mX35_counting : Nat → Option Nat} {mX35_gathering : Nat → Option Nat} {mX35_together : Nat → Option Nat} {mX35_held : Nat → Option Nat} {mX35_work : Nat → Int64} {mX35_large : Nat → Int32} {mX83_head : Nat → Option Nat} {mX83_parts : Nat → Option Nat} {mX83_kind : Nat → Int32} {mX83_variable : Nat → Int32} {mX84_sort : Nat → Int32} {mX84_name : Nat → Int32} {mX84_x : Nat → Int32} {mX84_y : Nat → Int32} {mJ1_modCount : Nat → Int32} {mJ2_elementData : Nat → Option Nat} {mJ2_size : Nat → Int32} {mJ4_words : Nat → Option Nat} {mJ4_wordsInUse : Nat → Int32} {mJ4_sizeIsSticky : Nat → Int32} {a : Nat} {v : Int32} (hk : kd a = 1) : va_up (cRE ci d kd an ai al ar mX35_said mX35_rules mX35_strata mX35_needs mX35_safe mX35_circle mX35_known mX35_holds mX35_rounds mX35_counts mX35_roundCount mX35_last mX35_next mX35_values mX35_coming mX35_counting mX35_gathering mX35_together mX35_held mX35_work mX35_large mX83_head mX83_parts mX83_kind mX83_variable mX84_sort mX84_name mX84_x mX84_y mJ1_modCount mJ2_elementData mJ2_size mJ4_words mJ4_wordsInUse mJ4_sizeIsSticky) a (.inr (ci 0, [va_rf (mX35_said a), va_rf (mX35_rules a), va_rf (mX35_strata a), va_rf (mX35_needs a), va_rf (mX35_safe a), .int (mX35_circle a), .int (mX35_known a), va_rf (mX35_holds a), va_rf (mX35_rounds a), va_rf (mX35_counts a), .int (mX35_roundCount a), va_rf (mX35_last a), va_rf (mX35_next a), va_rf (mX35_values a), va_rf (mX35_coming a), va_rf (mX35_counting a), va_rf (mX35_gathering a), va_rf (mX35_together a), va_rf (mX35_held a), .long (mX35_work a), .int v])) = (cRE ci d kd an ai al ar mX35_said mX35_rules mX35_strata mX35_needs mX35_safe mX35_circle mX35_known mX35_holds mX35_rounds mX35_counts mX35_roundCount mX35_last mX35_next mX35_values mX35_coming mX35_counting mX35_gathering mX35_together mX35_held mX35_work (va_up mX35_large a v) mX83_head mX83_parts mX83_kind mX83_variable mX84_sort mX84_name mX84_x mX84_y mJ1_modCount mJ2_elementData mJ2_size mJ4_words mJ4_wordsInUse mJ4_sizeIsSticky) := by
  funext b
  by_cases h : b = a
  · subst h
    rw [va_up_self]
    unfold cRE
    rw [hk]
    simp only [va_up_self]
  · rw [va_up_ne _ _ h]
    unfold cRE
    simp only [va_up_ne _ _ h]
theorem cRE_1_n {ci : Nat → Nat} {d : Nat → ClassId} {kd : Nat → Nat} {an : Nat → Nat} {ai : Nat → Nat → Int32} {al : Nat → Nat → Int64} {ar : Nat → Nat → Option Nat} {mX35_said : Nat → Option Nat} {mX35_rules : Nat → Option Nat} {mX35_strata : Nat → Option Nat} {mX35_needs : Nat → Option Nat} {mX35_safe : Nat → Option Nat} {mX35_circle : Nat → Int32} {mX35_known : Nat → Int32} {mX35_holds : Nat → Option Nat} {mX35_rounds : Nat → Option Nat} {mX35_counts : Nat → Option Nat} {mX35_roundCount : Nat → Int32} {mX35_last : Nat → Option Nat} {mX35_next : Nat → Option Nat} {mX35_values : Nat → Option Nat} {mX35_coming : Nat → Option Nat} {mX35_counting : Nat → Option Nat} {mX35_gathering : Nat → Option Nat} {mX35_together : Nat → Option Nat} {mX35_held : Nat → Option Nat} {mX35_work : Nat → Int64} {mX35_large : Nat → Int32} {mX83_head : Nat → Option Nat} {mX83_parts : Nat → Option Nat} {mX83_kind : Nat → Int32} {mX83_variable : Nat → Int32} {mX84_sort : Nat → Int32} {mX84_name : Nat → Int32} {mX84_x : Nat → Int32} {mX84_y : Nat → Int32} {mJ1_modCount : Nat → Int32} {mJ2_elementData : Nat → Option Nat} {mJ2_size : Nat → Int32} {mJ4_words : Nat → Option Nat} {mJ4_wordsInUse : Nat → Int32} {mJ4_sizeIsSticky : Nat → Int32} (q : Nat) : va_up (cRE ci d kd an ai al ar mX35_said mX35_rules mX35_strata mX35_needs mX35_safe mX35_circle mX35_known mX35_holds mX35_rounds mX35_counts mX35_roundCount mX35_last mX35_next mX35_values mX35_coming mX35_counting mX35_gathering mX35_together mX35_held mX35_work mX35_large mX83_head mX83_parts mX83_kind mX83_variable mX84_sort mX84_name mX84_x mX84_y mJ1_modCount mJ2_elementData mJ2_size mJ4_words mJ4_wordsInUse mJ4_sizeIsSticky) q (.inr (ci 0, [va_rf none, va_rf none, va_rf none, va_rf none, va_rf none, .int 0, .int 0, va_rf none, va_rf none, va_rf none, .int 0, va_rf none, va_rf none, va_rf none, va_rf none, va_rf none, va_rf none, va_rf none, va_rf none, .long 0, .int 0])) = (cRE ci d (va_up kd q 1) an ai al ar (va_up mX35_said q none) (va_up mX35_rules q none) (va_up mX35_strata q none) (va_up mX35_needs q none) (va_up mX35_safe q none) (va_up mX35_circle q 0) (va_up mX35_known q 0) (va_up mX35_holds q none) (va_up mX35_rounds q none) (va_up mX35_counts q none) (va_up mX35_roundCount q 0) (va_up mX35_last q none) (va_up mX35_next q none) (va_up mX35_values q none) (va_up mX35_coming q none) (va_up mX35_counting q none) (va_up mX35_gathering q none) (va_up mX35_together q none) (va_up mX35_held q none) (va_up mX35_work q 0) (va_up mX35_large q 0) mX83_head mX83_parts mX83_kind mX83_variable mX84_sort mX84_name mX84_x mX84_y mJ1_modCount mJ2_elementData mJ2_size mJ4_words mJ4_wordsInUse mJ4_sizeIsSticky) := by
  funext b
  by_cases h : b = q
  · subst h
    rw [va_up_self]
    unfold cRE
    simp only [va_up_self]
  · rw [va_up_ne _ _ h]
    unfold cRE
    simp only [va_up_ne _ _ h]
theorem cRE_2 {ci : Nat → Nat} {d : Nat → ClassId} {kd : Nat → Nat} {an : Nat → Nat} {ai : Nat → Nat → Int32} {al : Nat → Nat → Int64} {ar : Nat → Nat → Option Nat} {mX35_said : Nat → Option Nat} {mX35_rules : Nat → Option Nat} {mX35_strata : Nat → Option Nat} {mX35_needs : Nat → Option Nat} {mX35_safe : Nat → Option Nat} {mX35_circle : Nat → Int32} {mX35_known : Nat → Int32} {mX35_holds : Nat → Option Nat} {mX35_rounds : Nat → Option Nat} {mX35_counts : Nat → Option Nat} {mX35_roundCount : Nat → Int32} {mX35_last : Nat → Option Nat} {mX35_next : Nat → Option Nat} {mX35_values : Nat → Option Nat} {mX35_coming : Nat → Option Nat} {mX35_counting : Nat → Option Nat} {mX35_gathering : Nat → Option Nat} {mX35_together : Nat → Option Nat} {mX35_held : Nat → Option Nat} {mX35_work : Nat → Int64} {mX35_large : Nat → Int32} {mX83_head : Nat → Option Nat} {mX83_parts : Nat → Option Nat} {mX83_kind : Nat → Int32} {mX83_variable : Nat → Int32} {mX84_sort : Nat → Int32} {mX84_name : Nat → Int32} {mX84_x : Nat → Int32} {mX84_y : Nat → Int32} {mJ1_modCount : Nat → Int32} {mJ2_elementData : Nat → Option Nat} {mJ2_size : Nat → Int32} {mJ4_words : Nat → Option Nat} {mJ4_wordsInUse : Nat → Int32} {mJ4_sizeIsSticky : Nat → Int32} {a : Nat} (hk : kd a = 2) : (cRE ci d kd an ai al ar mX35_said mX35_rules mX35_strata mX35_needs mX35_safe mX35_circle mX35_known mX35_holds mX35_rounds mX35_counts mX35_roundCount mX35_last mX35_next mX35_values mX35_coming mX35_counting mX35_gathering mX35_together mX35_held mX35_work mX35_large mX83_head mX83_parts mX83_kind mX83_variable mX84_sort mX84_name mX84_x mX84_y mJ1_modCount mJ2_elementData mJ2_size mJ4_words mJ4_wordsInUse mJ4_sizeIsSticky) a = .inr (ci 1, []) := by unfold cRE; simp only [hk]
theorem cRE_2_n {ci : Nat → Nat} {d : Nat → ClassId} {kd : Nat → Nat} {an : Nat → Nat} {ai : Nat → Nat → Int32} {al : Nat → Nat → Int64} {ar : Nat → Nat → Option Nat} {mX35_said : Nat → Option Nat} {mX35_rules : Nat → Option Nat} {mX35_strata : Nat → Option Nat} {mX35_needs : Nat → Option Nat} {mX35_safe : Nat → Option Nat} {mX35_circle : Nat → Int32} {mX35_known : Nat → Int32} {mX35_holds : Nat → Option Nat} {mX35_rounds : Nat → Option Nat} {mX35_counts : Nat → Option Nat} {mX35_roundCount : Nat → Int32} {mX35_last : Nat → Option Nat} {mX35_next : Nat → Option Nat} {mX35_values : Nat → Option Nat} {mX35_coming : Nat → Option Nat} {mX35_counting : Nat → Option Nat} {mX35_gathering : Nat → Option Nat} {mX35_together : Nat → Option Nat} {mX35_held : Nat → Option Nat} {mX35_work : Nat → Int64} {mX35_large : Nat → Int32} {mX83_head : Nat → Option Nat} {mX83_parts : Nat → Option Nat} {mX83_kind : Nat → Int32} {mX83_variable : Nat → Int32} {mX84_sort : Nat → Int32} {mX84_name : Nat → Int32} {mX84_x : Nat → Int32} {mX84_y : Nat → Int32} {mJ1_modCount : Nat → Int32} {mJ2_elementData : Nat → Option Nat} {mJ2_size : Nat → Int32} {mJ4_words : Nat → Option Nat} {mJ4_wordsInUse : Nat → Int32} {mJ4_sizeIsSticky : Nat → Int32} (q : Nat) : va_up (cRE ci d kd an ai al ar mX35_said mX35_rules mX35_strata mX35_needs mX35_safe mX35_circle mX35_known mX35_holds mX35_rounds mX35_counts mX35_roundCount mX35_last mX35_next mX35_values mX35_coming mX35_counting mX35_gathering mX35_together mX35_held mX35_work mX35_large mX83_head mX83_parts mX83_kind mX83_variable mX84_sort mX84_name mX84_x mX84_y mJ1_modCount mJ2_elementData mJ2_size mJ4_words mJ4_wordsInUse mJ4_sizeIsSticky) q (.inr (ci 1, [])) = (cRE ci d (va_up kd q 2) an ai al ar mX35_said mX35_rules mX35_strata mX35_needs mX35_safe mX35_circle mX35_known mX35_holds mX35_rounds mX35_counts mX35_roundCount mX35_last mX35_next mX35_values mX35_coming mX35_counting mX35_gathering mX35_together mX35_held mX35_work mX35_large mX83_head mX83_parts mX83_kind mX83_variable mX84_sort mX84_name mX84_x mX84_y mJ1_modCount mJ2_elementData mJ2_size mJ4_words mJ4_wordsInUse mJ4_sizeIsSticky) := by
  funext b
  by_cases h : b = q
  · subst h
    rw [va_up_self]
    unfold cRE
    simp only [va_up_self]
  · rw [va_up_ne _ _ h]
    unfold cRE
    simp only [va_up_ne _ _ h]
theorem cRE_3 {ci : Nat → Nat} {d : Nat → ClassId} {kd : Nat → Nat} {an : Nat → Nat} {ai : Nat → Nat → Int32} {al : Nat → Nat → Int64} {ar : Nat → Nat → Option Nat} {mX35_said : Nat → Option Nat} {mX35_rules : Nat → Option Nat} {mX35_strata : Nat → Option Nat} {mX35_needs : Nat → Option Nat} {mX35_safe : Nat → Option Nat} {mX35_circle : Nat → Int32} {mX35_known : Nat → Int32} {mX35_holds : Nat → Option Nat} {mX35_rounds : Nat → Option Nat} {mX35_counts : Nat → Option Nat} {mX35_roundCount : Nat → Int32} {mX35_last : Nat → Option Nat} {mX35_next : Nat → Option Nat} {mX35_values : Nat → Option Nat} {mX35_coming : Nat → Option Nat} {mX35_counting : Nat → Option Nat} {mX35_gathering : Nat → Option Nat} {mX35_together : Nat → Option Nat} {mX35_held : Nat → Option Nat} {mX35_work : Nat → Int64} {mX35_large : Nat → Int32} {mX83_head : Nat → Option Nat} {mX83_parts : Nat → Option Nat} {mX83_kind : Nat → Int32} {mX83_variable : Nat → Int32} {mX84_sort : Nat → Int32} {mX84_name : Nat → Int32} {mX84_x : Nat → Int32} {mX84_y : Nat → Int32} {mJ1_modCount : Nat → Int32} {mJ2_elementData : Nat → Option Nat} {mJ2_size : Nat → Int32} {mJ4_words : Nat → Option Nat} {mJ4_wordsInUse : Nat → Int32} {mJ4_sizeIsSticky : Nat → Int32} {a : Nat} (hk : kd a = 3) : (cRE ci d kd an ai al ar mX35_said mX35_rules mX35_strata mX35_needs mX35_safe mX35_circle mX35_known mX35_holds mX35_rounds mX35_counts mX35_roundCount mX35_last mX35_next mX35_values mX35_coming mX35_counting mX35_gathering mX35_together mX35_held mX35_work mX35_large mX83_head mX83_parts mX83_kind mX83_variable mX84_sort mX84_name mX84_x mX84_y mJ1_modCount mJ2_elementData mJ2_size mJ4_words mJ4_wordsInUse mJ4_sizeIsSticky) a = .inr (ci 2, []) := by unfold cRE; simp only [hk]
theorem cRE_3_n {ci : Nat → Nat} {d : Nat → ClassId} {kd : Nat → Nat} {an : Nat → Nat} {ai : Nat → Nat → Int32} {al : Nat → Nat → Int64} {ar : Nat → Nat → Option Nat} {mX35_said : Nat → Option Nat} {mX35_rules : Nat → Option Nat} {mX35_strata : Nat → Option Nat} {mX35_needs : Nat → Option Nat} {mX35_safe : Nat → Option Nat} {mX35_circle : Nat → Int32} {mX35_known : Nat → Int32} {mX35_holds : Nat → Option Nat} {mX35_rounds : Nat → Option Nat} {mX35_counts : Nat → Option Nat} {mX35_roundCount : Nat → Int32} {mX35_last : Nat → Option Nat} {mX35_next : Nat → Option Nat} {mX35_values : Nat → Option Nat} {mX35_coming : Nat → Option Nat} {mX35_counting : Nat → Option Nat} {mX35_gathering : Nat → Option Nat} {mX35_together : Nat → Option Nat} {mX35_held : Nat → Option Nat} {mX35_work : Nat → Int64} {mX35_large : Nat → Int32} {mX83_head : Nat → Option Nat} {mX83_parts : Nat → Option Nat} {mX83_kind : Nat → Int32} {mX83_variable : Nat → Int32} {mX84_sort : Nat → Int32} {mX84_name : Nat → Int32} {mX84_x : Nat → Int32} {mX84_y : Nat → Int32} {mJ1_modCount : Nat → Int32} {mJ2_elementData : Nat → Option Nat} {mJ2_size : Nat → Int32} {mJ4_words : Nat → Option Nat} {mJ4_wordsInUse : Nat → Int32} {mJ4_sizeIsSticky : Nat → Int32} (q : Nat) : va_up (cRE ci d kd an ai al ar mX35_said mX35_rules mX35_strata mX35_needs mX35_safe mX35_circle mX35_known mX35_holds mX35_rounds mX35_counts mX35_roundCount mX35_last mX35_next mX35_values mX35_coming mX35_counting mX35_gathering mX35_together mX35_held mX35_work mX35_large mX83_head mX83_parts mX83_kind mX83_variable mX84_sort mX84_name mX84_x mX84_y mJ1_modCount mJ2_elementData mJ2_size mJ4_words mJ4_wordsInUse mJ4_sizeIsSticky) q (.inr (ci 2, [])) = (cRE ci d (va_up kd q 3) an ai al ar mX35_said mX35_rules mX35_strata mX35_needs mX35_safe mX35_circle mX35_known mX35_holds mX35_rounds mX35_counts mX35_roundCount mX35_last mX35_next mX35_values mX35_coming mX35_counting mX35_gathering mX35_together mX35_held mX35_work mX35_large mX83_head mX83_parts mX83_kind mX83_variable mX84_sort mX84_name mX84_x mX84_y mJ1_modCount mJ2_elementData mJ2_size mJ4_words mJ4_wordsInUse mJ4_sizeIsSticky) := by
  funext b
  by_cases h : b = q
  · subst h
    rw [va_up_self]
    unfold cRE
    simp only [va_up_self]
  · rw [va_up_ne _ _ h]
    unfold cRE
    simp only [va_up_ne _ _ h]
theorem cRE_4 {ci : Nat → Nat} {d : Nat → ClassId} {kd : Nat → Nat} {an : Nat → Nat} {ai : Nat → Nat → Int32} {al : Nat → Nat → Int64} {ar : Nat → Nat → Option Nat} {mX35_said : Nat → Option Nat} {mX35_rules : Nat → Option Nat} {mX35_strata : Nat → Option Nat} {mX35_needs : Nat → Option Nat} {mX35_safe : Nat → Option Nat} {mX35_circle : Nat → Int32} {mX35_known : Nat → Int32} {mX35_holds : Nat → Option Nat} {mX35_rounds : Nat → Option Nat} {mX35_counts : Nat → Option Nat} {mX35_roundCount : Nat → Int32} {mX35_last : Nat → Option Nat} {mX35_next : Nat → Option Nat} {mX35_values : Nat → Option Nat} {mX35_coming : Nat → Option Nat} {mX35_counting : Nat → Option Nat} {mX35_gathering : Nat → Option Nat} {mX35_together : Nat → Option Nat} {mX35_held : Nat → Option Nat} {mX35_work : Nat → Int64} {mX35_large : Nat → Int32} {mX83_head : Nat → Option Nat} {mX83_parts : Nat → Option Nat} {mX83_kind : Nat → Int32} {mX83_variable : Nat → Int32} {mX84_sort : Nat → Int32} {mX84_name : Nat → Int32} {mX84_x : Nat → Int32} {mX84_y : Nat → Int32} {mJ1_modCount : Nat → Int32} {mJ2_elementData : Nat → Option Nat} {mJ2_size : Nat → Int32} {mJ4_words : Nat → Option Nat} {mJ4_wordsInUse : Nat → Int32} {mJ4_sizeIsSticky : Nat → Int32} {a : Nat} (hk : kd a = 4) : (cRE ci d kd an ai al ar mX35_said mX35_rules mX35_strata mX35_needs mX35_safe mX35_circle mX35_known mX35_holds mX35_rounds mX35_counts mX35_roundCount mX35_last mX35_next mX35_values mX35_coming mX35_counting mX35_gathering mX35_together mX35_held mX35_work mX35_large mX83_head mX83_parts mX83_kind mX83_variable mX84_sort mX84_name mX84_x mX84_y mJ1_modCount mJ2_elementData mJ2_size mJ4_words mJ4_wordsInUse mJ4_sizeIsSticky) a = .inr (ci 3, []) := by unfold cRE; simp only [hk]
theorem cRE_4_n {ci : Nat → Nat} {d : Nat → ClassId} {kd : Nat → Nat} {an : Nat → Nat} {ai : Nat → Nat → Int32} {al : Nat → Nat → Int64} {ar : Nat → Nat → Option Nat} {mX35_said : Nat → Option Nat} {mX35_rules : Nat → Option Nat} {mX35_strata : Nat → Option Nat} {mX35_needs : Nat → Option Nat} {mX35_safe : Nat → Option Nat} {mX35_circle : Nat → Int32} {mX35_known : Nat → Int32} {mX35_holds : Nat → Option Nat} {mX35_rounds : Nat → Option Nat} {mX35_counts : Nat → Option Nat} {mX35_roundCount : Nat → Int32} {mX35_last : Nat → Option Nat} {mX35_next : Nat → Option Nat} {mX35_values : Nat → Option Nat} {mX35_coming : Nat → Option Nat} {mX35_counting : Nat → Option Nat} {mX35_gathering : Nat → Option Nat} {mX35_together : Nat → Option Nat} {mX35_held : Nat → Option Nat} {mX35_work : Nat → Int64} {mX35_large : Nat → Int32} {mX83_head : Nat → Option Nat} {mX83_parts : Nat → Option Nat} {mX83_kind : Nat → Int32} {mX83_variable : Nat → Int32} {mX84_sort : Nat → Int32} {mX84_name : Nat → Int32} {mX84_x : Nat → Int32} {mX84_y : Nat → Int32} {mJ1_modCount : Nat → Int32} {mJ2_elementData : Nat → Option Nat} {mJ2_size : Nat → Int32} {mJ4_words : Nat → Option Nat} {mJ4_wordsInUse : Nat → Int32} {mJ4_sizeIsSticky : Nat → Int32} (q : Nat) : va_up (cRE ci d kd an ai al ar mX35_said mX35_rules mX35_strata mX35_needs mX35_safe mX35_circle mX35_known mX35_holds mX35_rounds mX35_counts mX35_roundCount mX35_last mX35_next mX35_values mX35_coming mX35_counting mX35_gathering mX35_together mX35_held mX35_work mX35_large mX83_head mX83_parts mX83_kind mX83_variable mX84_sort mX84_name mX84_x mX84_y mJ1_modCount mJ2_elementData mJ2_size mJ4_words mJ4_wordsInUse mJ4_sizeIsSticky) q (.inr (ci 3, [])) = (cRE ci d (va_up kd q 4) an ai al ar mX35_said mX35_rules mX35_strata mX35_needs mX35_safe mX35_circle mX35_known mX35_holds mX35_rounds mX35_counts mX35_roundCount mX35_last mX35_next mX35_values mX35_coming mX35_counting mX35_gathering mX35_together mX35_held mX35_work mX35_large mX83_head mX83_parts mX83_kind mX83_variable mX84_sort mX84_name mX84_x mX84_y mJ1_modCount mJ2_elementData mJ2_size mJ4_words mJ4_wordsInUse mJ4_sizeIsSticky) := by
  funext b
  by_cases h : b = q
  · subst h
    rw [va_up_self]
    unfold cRE
    simp only [va_up_self]
  · rw [va_up_ne _ _ h]
    unfold cRE
    simp only [va_up_ne _ _ h]
theorem cRE_5 {ci : Nat → Nat} {d : Nat → ClassId} {kd : Nat → Nat} {an : Nat → Nat} {ai : Nat → Nat → Int32} {al : Nat → Nat → Int64} {ar : Nat → Nat → Option Nat} {mX35_said : Nat → Option Nat} {mX35_rules : Nat → Option Nat} {mX35_strata : Nat → Option Nat} {mX35_needs : Nat → Option Nat} {mX35_safe : Nat → Option Nat} {mX35_circle : Nat → Int32} {mX35_known : Nat → Int32} {mX35_holds : Nat → Option Nat} {mX35_rounds : Nat → Option Nat} {mX35_counts : Nat → Option Nat} {mX35_roundCount : Nat → Int32} {mX35_last : Nat → Option Nat} {mX35_next : Nat → Option Nat} {mX35_values : Nat → Option Nat} {mX35_coming : Nat → Option Nat} {mX35_counting : Nat → Option Nat} {mX35_gathering : Nat → Option Nat} {mX35_together : Nat → Option Nat} {mX35_held : Nat → Option Nat} {mX35_work : Nat → Int64} {mX35_large : Nat → Int32} {mX83_head : Nat → Option Nat} {mX83_parts : Nat → Option Nat} {mX83_kind : Nat → Int32} {mX83_variable : Nat → Int32} {mX84_sort : Nat → Int32} {mX84_name : Nat → Int32} {mX84_x : Nat → Int32} {mX84_y : Nat → Int32} {mJ1_modCount : Nat → Int32} {mJ2_elementData : Nat → Option Nat} {mJ2_size : Nat → Int32} {mJ4_words : Nat → Option Nat} {mJ4_wordsInUse : Nat → Int32} {mJ4_sizeIsSticky : Nat → Int32} {a : Nat} (hk : kd a = 5) : (cRE ci d kd an ai al ar mX35_said mX35_rules mX35_strata mX35_needs mX35_safe mX35_circle mX35_known mX35_holds mX35_rounds mX35_counts mX35_roundCount mX35_last mX35_next mX35_values mX35_coming mX35_counting mX35_gathering mX35_together mX35_held mX35_work mX35_large mX83_head mX83_parts mX83_kind mX83_variable mX84_sort mX84_name mX84_x mX84_y mJ1_modCount mJ2_elementData mJ2_size mJ4_words mJ4_wordsInUse mJ4_sizeIsSticky) a = .inr (ci 4, [va_rf (mX83_head a), va_rf (mX83_parts a), .int (mX83_kind a), .int (mX83_variable a)]) := by unfold cRE; simp only [hk]
theorem cRE_5_0 {ci : Nat → Nat} {d : Nat → ClassId} {kd : Nat → Nat} {an : Nat → Nat} {ai : Nat → Nat → Int32} {al : Nat → Nat → Int64} {ar : Nat → Nat → Option Nat} {mX35_said : Nat → Option Nat} {mX35_rules : Nat → Option Nat} {mX35_strata : Nat → Option Nat} {mX35_needs : Nat → Option Nat} {mX35_safe : Nat → Option Nat} {mX35_circle : Nat → Int32} {mX35_known : Nat → Int32} {mX35_holds : Nat → Option Nat} {mX35_rounds : Nat → Option Nat} {mX35_counts : Nat → Option Nat} {mX35_roundCount : Nat → Int32} {mX35_last : Nat → Option Nat} {mX35_next : Nat → Option Nat} {mX35_values : Nat → Option Nat} {mX35_coming : Nat → Option Nat} {mX35_counting : Nat → Option Nat} {mX35_gathering : Nat → Option Nat} {mX35_together : Nat → Option Nat} {mX35_held : Nat → Option Nat} {mX35_work : Nat → Int64} {mX35_large : Nat → Int32} {mX83_head : Nat → Option Nat} {mX83_parts : Nat → Option Nat} {mX83_kind : Nat → Int32} {mX83_variable : Nat → Int32} {mX84_sort : Nat → Int32} {mX84_name : Nat → Int32} {mX84_x : Nat → Int32} {mX84_y : Nat → Int32} {mJ1_modCount : Nat → Int32} {mJ2_elementData : Nat → Option Nat} {mJ2_size : Nat → Int32} {mJ4_words : Nat → Option Nat} {mJ4_wordsInUse : Nat → Int32} {mJ4_sizeIsSticky : Nat → Int32} {a : Nat} {v : Option Nat} (hk : kd a = 5) : va_up (cRE ci d kd an ai al ar mX35_said mX35_rules mX35_strata mX35_needs mX35_safe mX35_circle mX35_known mX35_holds mX35_rounds mX35_counts mX35_roundCount mX35_last mX35_next mX35_values mX35_coming mX35_counting mX35_gathering mX35_together mX35_held mX35_work mX35_large mX83_head mX83_parts mX83_kind mX83_variable mX84_sort mX84_name mX84_x mX84_y mJ1_modCount mJ2_elementData mJ2_size mJ4_words mJ4_wordsInUse mJ4_sizeIsSticky) a (.inr (ci 4, [va_rf v, va_rf (mX83_parts a), .int (mX83_kind a), .int (mX83_variable a)])) = (cRE ci d kd an ai al ar mX35_said mX35_rules mX35_strata mX35_needs mX35_safe mX35_circle mX35_known mX35_holds mX35_rounds mX35_counts mX35_roundCount mX35_last mX35_next mX35_values mX35_coming mX35_counting mX35_gathering mX35_together mX35_held mX35_work mX35_large (va_up mX83_head a v) mX83_parts mX83_kind mX83_variable mX84_sort mX84_name mX84_x mX84_y mJ1_modCount mJ2_elementData mJ2_size mJ4_words mJ4_wordsInUse mJ4_sizeIsSticky) := by
  funext b
  by_cases h : b = a
  · subst h
    rw [va_up_self]
    unfold cRE
    rw [hk]
    simp only [va_up_self]
  · rw [va_up_ne _ _ h]
    unfold cRE
    simp only [va_up_ne _ _ h]
theorem cRE_5_1 {ci : Nat → Nat} {d : Nat → ClassId} {kd : Nat → Nat} {an : Nat → Nat} {ai : Nat → Nat → Int32} {al : Nat → Nat → Int64} {ar : Nat → Nat → Option Nat} {mX35_said : Nat → Option Nat} {mX35_rules : Nat → Option Nat} {mX35_strata : Nat → Option Nat} {mX35_needs : Nat → Option Nat} {mX35_safe : Nat → Option Nat} {mX35_circle : Nat → Int32} {mX35_known : Nat → Int32} {mX35_holds : Nat → Option Nat} {mX35_rounds : Nat → Option Nat} {mX35_counts : Nat → Option Nat} {mX35_roundCount : Nat → Int32} {mX35_last : Nat → Option Nat} {mX35_next : Nat → Option Nat} {mX35_values : Nat → Option Nat} {mX35_coming : Nat → Option Nat} {mX35_counting : Nat → Option Nat} {mX35_gathering : Nat → Option Nat} {mX35_together : Nat → Option Nat} {mX35_held : Nat → Option Nat} {mX35_work : Nat → Int64} {mX35_large : Nat → Int32} {mX83_head : Nat → Option Nat} {mX83_parts : Nat → Option Nat} {mX83_kind : Nat → Int32} {mX83_variable : Nat → Int32} {mX84_sort : Nat → Int32} {mX84_name : Nat → Int32} {mX84_x : Nat → Int32} {mX84_y : Nat → Int32} {mJ1_modCount : Nat → Int32} {mJ2_elementData : Nat → Option Nat} {mJ2_size : Nat → Int32} {mJ4_words : Nat → Option Nat} {mJ4_wordsInUse : Nat → Int32} {mJ4_sizeIsSticky : Nat → Int32} {a : Nat} {v : Option Nat} (hk : kd a = 5) : va_up (cRE ci d kd an ai al ar mX35_said mX35_rules mX35_strata mX35_needs mX35_safe mX35_circle mX35_known mX35_holds mX35_rounds mX35_counts mX35_roundCount mX35_last mX35_next mX35_values mX35_coming mX35_counting mX35_gathering mX35_together mX35_held mX35_work mX35_large mX83_head mX83_parts mX83_kind mX83_variable mX84_sort mX84_name mX84_x mX84_y mJ1_modCount mJ2_elementData mJ2_size mJ4_words mJ4_wordsInUse mJ4_sizeIsSticky) a (.inr (ci 4, [va_rf (mX83_head a), va_rf v, .int (mX83_kind a), .int (mX83_variable a)])) = (cRE ci d kd an ai al ar mX35_said mX35_rules mX35_strata mX35_needs mX35_safe mX35_circle mX35_known mX35_holds mX35_rounds mX35_counts mX35_roundCount mX35_last mX35_next mX35_values mX35_coming mX35_counting mX35_gathering mX35_together mX35_held mX35_work mX35_large mX83_head (va_up mX83_parts a v) mX83_kind mX83_variable mX84_sort mX84_name mX84_x mX84_y mJ1_modCount mJ2_elementData mJ2_size mJ4_words mJ4_wordsInUse mJ4_sizeIsSticky) := by
  funext b
  by_cases h : b = a
  · subst h
    rw [va_up_self]
    unfold cRE
    rw [hk]
    simp only [va_up_self]
  · rw [va_up_ne _ _ h]
    unfold cRE
    simp only [va_up_ne _ _ h]
theorem cRE_5_2 {ci : Nat → Nat} {d : Nat → ClassId} {kd : Nat → Nat} {an : Nat → Nat} {ai : Nat → Nat → Int32} {al : Nat → Nat → Int64} {ar : Nat → Nat → Option Nat} {mX35_said : Nat → Option Nat} {mX35_rules : Nat → Option Nat} {mX35_strata : Nat → Option Nat} {mX35_needs : Nat → Option Nat} {mX35_safe : Nat → Option Nat} {mX35_circle : Nat → Int32} {mX35_known : Nat → Int32} {mX35_holds : Nat → Option Nat} {mX35_rounds : Nat → Option Nat} {mX35_counts : Nat → Option Nat} {mX35_roundCount : Nat → Int32} {mX35_last : Nat → Option Nat} {mX35_next : Nat → Option Nat} {mX35_values : Nat → Option Nat} {mX35_coming : Nat → Option Nat} {mX35_counting : Nat → Option Nat} {mX35_gathering : Nat → Option Nat} {mX35_together : Nat → Option Nat} {mX35_held : Nat → Option Nat} {mX35_work : Nat → Int64} {mX35_large : Nat → Int32} {mX83_head : Nat → Option Nat} {mX83_parts : Nat → Option Nat} {mX83_kind : Nat → Int32} {mX83_variable : Nat → Int32} {mX84_sort : Nat → Int32} {mX84_name : Nat → Int32} {mX84_x : Nat → Int32} {mX84_y : Nat → Int32} {mJ1_modCount : Nat → Int32} {mJ2_elementData : Nat → Option Nat} {mJ2_size : Nat → Int32} {mJ4_words : Nat → Option Nat} {mJ4_wordsInUse : Nat → Int32} {mJ4_sizeIsSticky : Nat → Int32} {a : Nat} {v : Int32} (hk : kd a = 5) : va_up (cRE ci d kd an ai al ar mX35_said mX35_rules mX35_strata mX35_needs mX35_safe mX35_circle mX35_known mX35_holds mX35_rounds mX35_counts mX35_roundCount mX35_last mX35_next mX35_values mX35_coming mX35_counting mX35_gathering mX35_together mX35_held mX35_work mX35_large mX83_head mX83_parts mX83_kind mX83_variable mX84_sort mX84_name mX84_x mX84_y mJ1_modCount mJ2_elementData mJ2_size mJ4_words mJ4_wordsInUse mJ4_sizeIsSticky) a (.inr (ci 4, [va_rf (mX83_head a), va_rf (mX83_parts a), .int v, .int (mX83_variable a)])) = (cRE ci d kd an ai al ar mX35_said mX35_rules mX35_strata mX35_needs mX35_safe mX35_circle mX35_known mX35_holds mX35_rounds mX35_counts mX35_roundCount mX35_last mX35_next mX35_values mX35_coming mX35_counting mX35_gathering mX35_together mX35_held mX35_work mX35_large mX83_head mX83_parts (va_up mX83_kind a v) mX83_variable mX84_sort mX84_name mX84_x mX84_y mJ1_modCount mJ2_elementData mJ2_size mJ4_words mJ4_wordsInUse mJ4_sizeIsSticky) := by
  funext b
  by_cases h : b = a
  · subst h
    rw [va_up_self]
    unfold cRE
    rw [hk]
    simp only [va_up_self]
  · rw [va_up_ne _ _ h]
    unfold cRE
    simp only [va_up_ne _ _ h]
theorem cRE_5_3 {ci : Nat → Nat} {d : Nat → ClassId} {kd : Nat → Nat} {an : Nat → Nat} {ai : Nat → Nat → Int32} {al : Nat → Nat → Int64} {ar : Nat → Nat → Option Nat} {mX35_said : Nat → Option Nat} {mX35_rules : Nat → Option Nat} {mX35_strata : Nat → Option Nat} {mX35_needs : Nat → Option Nat} {mX35_safe : Nat → Option Nat} {mX35_circle : Nat → Int32} {mX35_known : Nat → Int32} {mX35_holds : Nat → Option Nat} {mX35_rounds : Nat → Option Nat} {mX35_counts : Nat → Option Nat} {mX35_roundCount : Nat → Int32} {mX35_last : Nat → Option Nat} {mX35_next : Nat → Option Nat} {mX35_values : Nat → Option Nat} {mX35_coming : Nat → Option Nat} {mX35_counting : Nat → Option Nat} {mX35_gathering : Nat → Option Nat} {mX35_together : Nat → Option Nat} {mX35_held : Nat → Option Nat} {mX35_work : Nat → Int64} {mX35_large : Nat → Int32} {mX83_head : Nat → Option Nat} {mX83_parts : Nat → Option Nat} {mX83_kind : Nat → Int32} {mX83_variable : Nat → Int32} {mX84_sort : Nat → Int32} {mX84_name : Nat → Int32} {mX84_x : Nat → Int32} {mX84_y : Nat → Int32} {mJ1_modCount : Nat → Int32} {mJ2_elementData : Nat → Option Nat} {mJ2_size : Nat → Int32} {mJ4_words : Nat → Option Nat} {mJ4_wordsInUse : Nat → Int32} {mJ4_sizeIsSticky : Nat → Int32} {a : Nat} {v : Int32} (hk : kd a = 5) : va_up (cRE ci d kd an ai al ar mX35_said mX35_rules mX35_strata mX35_needs mX35_safe mX35_circle mX35_known mX35_holds mX35_rounds mX35_counts mX35_roundCount mX35_last mX35_next mX35_values mX35_coming mX35_counting mX35_gathering mX35_together mX35_held mX35_work mX35_large mX83_head mX83_parts mX83_kind mX83_variable mX84_sort mX84_name mX84_x mX84_y mJ1_modCount mJ2_elementData mJ2_size mJ4_words mJ4_wordsInUse mJ4_sizeIsSticky) a (.inr (ci 4, [va_rf (mX83_head a), va_rf (mX83_parts a), .int (mX83_kind a), .int v])) = (cRE ci d kd an ai al ar mX35_said mX35_rules mX35_strata mX35_needs mX35_safe mX35_circle mX35_known mX35_holds mX35_rounds mX35_counts mX35_roundCount mX35_last mX35_next mX35_values mX35_coming mX35_counting mX35_gathering mX35_together mX35_held mX35_work mX35_large mX83_head mX83_parts mX83_kind (va_up mX83_variable a v) mX84_sort mX84_name mX84_x mX84_y mJ1_modCount mJ2_elementData mJ2_size mJ4_words mJ4_wordsInUse mJ4_sizeIsSticky) := by
  funext b
  by_cases h : b = a
  · subst h
    rw [va_up_self]
    unfold cRE
    rw [hk]
    simp only [va_up_self]
  · rw [va_up_ne _ _ h]
    unfold cRE
    simp only [va_up_ne _ _ h]
theorem cRE_5_n {ci : Nat → Nat} {d : Nat → ClassId} {kd : Nat → Nat} {an : Nat → Nat} {ai : Nat → Nat → Int32} {al : Nat → Nat → Int64} {ar : Nat → Nat → Option Nat} {mX35_said : Nat → Option Nat} {mX35_rules : Nat → Option Nat} {mX35_strata : Nat → Option Nat} {mX35_needs : Nat → Option Nat} {mX35_safe : Nat → Option Nat} {mX35_circle : Nat → Int32} {mX35_known : Nat → Int32} {mX35_holds : Nat → Option Nat} {mX35_rounds : Nat → Option Nat} {mX35_counts : Nat → Option Nat} {mX35_roundCount : Nat → Int32} {mX35_last : Nat → Option Nat} {mX35_next : Nat → Option Nat} {mX35_values : Nat → Option Nat} {mX35_coming : Nat → Option Nat} {mX35_counting : Nat → Option Nat} {mX35_gathering : Nat → Option Nat} {mX35_together : Nat → Option Nat} {mX35_held : Nat → Option Nat} {mX35_work : Nat → Int64} {mX35_large : Nat → Int32} {mX83_head : Nat → Option Nat} {mX83_parts : Nat → Option Nat} {mX83_kind : Nat → Int32} {mX83_variable : Nat → Int32} {mX84_sort : Nat → Int32} {mX84_name : Nat → Int32} {mX84_x : Nat → Int32} {mX84_y : Nat → Int32} {mJ1_modCount : Nat → Int32} {mJ2_elementData : Nat → Option Nat} {mJ2_size : Nat → Int32} {mJ4_words : Nat → Option Nat} {mJ4_wordsInUse : Nat → Int32} {mJ4_sizeIsSticky : Nat → Int32} (q : Nat) : va_up (cRE ci d kd an ai al ar mX35_said mX35_rules mX35_strata mX35_needs mX35_safe mX35_circle mX35_known mX35_holds mX35_rounds mX35_counts mX35_roundCount mX35_last mX35_next mX35_values mX35_coming mX35_counting mX35_gathering mX35_together mX35_held mX35_work mX35_large mX83_head mX83_parts mX83_kind mX83_variable mX84_sort mX84_name mX84_x mX84_y mJ1_modCount mJ2_elementData mJ2_size mJ4_words mJ4_wordsInUse mJ4_sizeIsSticky) q (.inr (ci 4, [va_rf none, va_rf none, .int 0, .int 0])) = (cRE ci d (va_up kd q 5) an ai al ar mX35_said mX35_rules mX35_strata mX35_needs mX35_safe mX35_circle mX35_known mX35_holds mX35_rounds mX35_counts mX35_roundCount mX35_last mX35_next mX35_values mX35_coming mX35_counting mX35_gathering mX35_together mX35_held mX35_work mX35_large (va_up mX83_head q none) (va_up mX83_parts q none) (va_up mX83_kind q 0) (va_up mX83_variable q 0) mX84_sort mX84_name mX84_x mX84_y mJ1_modCount mJ2_elementData mJ2_size mJ4_words mJ4_wordsInUse mJ4_sizeIsSticky) := by
  funext b
  by_cases h : b = q
  · subst h
    rw [va_up_self]
    unfold cRE
    simp only [va_up_self]
  · rw [va_up_ne _ _ h]
    unfold cRE
    simp only [va_up_ne _ _ h]
theorem cRE_6 {ci : Nat → Nat} {d : Nat → ClassId} {kd : Nat → Nat} {an : Nat → Nat} {ai : Nat → Nat → Int32} {al : Nat → Nat → Int64} {ar : Nat → Nat → Option Nat} {mX35_said : Nat → Option Nat} {mX35_rules : Nat → Option Nat} {mX35_strata : Nat → Option Nat} {mX35_needs : Nat → Option Nat} {mX35_safe : Nat → Option Nat} {mX35_circle : Nat → Int32} {mX35_known : Nat → Int32} {mX35_holds : Nat → Option Nat} {mX35_rounds : Nat → Option Nat} {mX35_counts : Nat → Option Nat} {mX35_roundCount : Nat → Int32} {mX35_last : Nat → Option Nat} {mX35_next : Nat → Option Nat} {mX35_values : Nat → Option Nat} {mX35_coming : Nat → Option Nat} {mX35_counting : Nat → Option Nat} {mX35_gathering : Nat → Option Nat} {mX35_together : Nat → Option Nat} {mX35_held : Nat → Option Nat} {mX35_work : Nat → Int64} {mX35_large : Nat → Int32} {mX83_head : Nat → Option Nat} {mX83_parts : Nat → Option Nat} {mX83_kind : Nat → Int32} {mX83_variable : Nat → Int32} {mX84_sort : Nat → Int32} {mX84_name : Nat → Int32} {mX84_x : Nat → Int32} {mX84_y : Nat → Int32} {mJ1_modCount : Nat → Int32} {mJ2_elementData : Nat → Option Nat} {mJ2_size : Nat → Int32} {mJ4_words : Nat → Option Nat} {mJ4_wordsInUse : Nat → Int32} {mJ4_sizeIsSticky : Nat → Int32} {a : Nat} (hk : kd a = 6) : (cRE ci d kd an ai al ar mX35_said mX35_rules mX35_strata mX35_needs mX35_safe mX35_circle mX35_known mX35_holds mX35_rounds mX35_counts mX35_roundCount mX35_last mX35_next mX35_values mX35_coming mX35_counting mX35_gathering mX35_together mX35_held mX35_work mX35_large mX83_head mX83_parts mX83_kind mX83_variable mX84_sort mX84_name mX84_x mX84_y mJ1_modCount mJ2_elementData mJ2_size mJ4_words mJ4_wordsInUse mJ4_sizeIsSticky) a = .inr (ci 5, [.int (mX84_sort a), .int (mX84_name a), .int (mX84_x a), .int (mX84_y a)]) := by unfold cRE; simp only [hk]
theorem cRE_6_0 {ci : Nat → Nat} {d : Nat → ClassId} {kd : Nat → Nat} {an : Nat → Nat} {ai : Nat → Nat → Int32} {al : Nat → Nat → Int64} {ar : Nat → Nat → Option Nat} {mX35_said : Nat → Option Nat} {mX35_rules : Nat → Option Nat} {mX35_strata : Nat → Option Nat} {mX35_needs : Nat → Option Nat} {mX35_safe : Nat → Option Nat} {mX35_circle : Nat → Int32} {mX35_known : Nat → Int32} {mX35_holds : Nat → Option Nat} {mX35_rounds : Nat → Option Nat} {mX35_counts : Nat → Option Nat} {mX35_roundCount : Nat → Int32} {mX35_last : Nat → Option Nat} {mX35_next : Nat → Option Nat} {mX35_values : Nat → Option Nat} {mX35_coming : Nat → Option Nat} {mX35_counting : Nat → Option Nat} {mX35_gathering : Nat → Option Nat} {mX35_together : Nat → Option Nat} {mX35_held : Nat → Option Nat} {mX35_work : Nat → Int64} {mX35_large : Nat → Int32} {mX83_head : Nat → Option Nat} {mX83_parts : Nat → Option Nat} {mX83_kind : Nat → Int32} {mX83_variable : Nat → Int32} {mX84_sort : Nat → Int32} {mX84_name : Nat → Int32} {mX84_x : Nat → Int32} {mX84_y : Nat → Int32} {mJ1_modCount : Nat → Int32} {mJ2_elementData : Nat → Option Nat} {mJ2_size : Nat → Int32} {mJ4_words : Nat → Option Nat} {mJ4_wordsInUse : Nat → Int32} {mJ4_sizeIsSticky : Nat → Int32} {a : Nat} {v : Int32} (hk : kd a = 6) : va_up (cRE ci d kd an ai al ar mX35_said mX35_rules mX35_strata mX35_needs mX35_safe mX35_circle mX35_known mX35_holds mX35_rounds mX35_counts mX35_roundCount mX35_last mX35_next mX35_values mX35_coming mX35_counting mX35_gathering mX35_together mX35_held mX35_work mX35_large mX83_head mX83_parts mX83_kind mX83_variable mX84_sort mX84_name mX84_x mX84_y mJ1_modCount mJ2_elementData mJ2_size mJ4_words mJ4_wordsInUse mJ4_sizeIsSticky) a (.inr (ci 5, [.int v, .int (mX84_name a), .int (mX84_x a), .int (mX84_y a)])) = (cRE ci d kd an ai al ar mX35_said mX35_rules mX35_strata mX35_needs mX35_safe mX35_circle mX35_known mX35_holds mX35_rounds mX35_counts mX35_roundCount mX35_last mX35_next mX35_values mX35_coming mX35_counting mX35_gathering mX35_together mX35_held mX35_work mX35_large mX83_head mX83_parts mX83_kind mX83_variable (va_up mX84_sort a v) mX84_name mX84_x mX84_y mJ1_modCount mJ2_elementData mJ2_size mJ4_words mJ4_wordsInUse mJ4_sizeIsSticky) := by
  funext b
  by_cases h : b = a
  · subst h
    rw [va_up_self]
    unfold cRE
    rw [hk]
    simp only [va_up_self]
  · rw [va_up_ne _ _ h]
    unfold cRE
    simp only [va_up_ne _ _ h]
theorem cRE_6_1 {ci : Nat → Nat} {d : Nat → ClassId} {kd : Nat → Nat} {an : Nat → Nat} {ai : Nat → Nat → Int32} {al : Nat → Nat → Int64} {ar : Nat → Nat → Option Nat} {mX35_said : Nat → Option Nat} {mX35_rules : Nat → Option Nat} {mX35_strata : Nat → Option Nat} {mX35_needs : Nat → Option Nat} {mX35_safe : Nat → Option Nat} {mX35_circle : Nat → Int32} {mX35_known : Nat → Int32} {mX35_holds : Nat → Option Nat} {mX35_rounds : Nat → Option Nat} {mX35_counts : Nat → Option Nat} {mX35_roundCount : Nat → Int32} {mX35_last : Nat → Option Nat} {mX35_next : Nat → Option Nat} {mX35_values : Nat → Option Nat} {mX35_coming : Nat → Option Nat} {mX35_counting : Nat → Option Nat} {mX35_gathering : Nat → Option Nat} {mX35_together : Nat → Option Nat} {mX35_held : Nat → Option Nat} {mX35_work : Nat → Int64} {mX35_large : Nat → Int32} {mX83_head : Nat → Option Nat} {mX83_parts : Nat → Option Nat} {mX83_kind : Nat → Int32} {mX83_variable : Nat → Int32} {mX84_sort : Nat → Int32} {mX84_name : Nat → Int32} {mX84_x : Nat → Int32} {mX84_y : Nat → Int32} {mJ1_modCount : Nat → Int32} {mJ2_elementData : Nat → Option Nat} {mJ2_size : Nat → Int32} {mJ4_words : Nat → Option Nat} {mJ4_wordsInUse : Nat → Int32} {mJ4_sizeIsSticky : Nat → Int32} {a : Nat} {v : Int32} (hk : kd a = 6) : va_up (cRE ci d kd an ai al ar mX35_said mX35_rules mX35_strata mX35_needs mX35_safe mX35_circle mX35_known mX35_holds mX35_rounds mX35_counts mX35_roundCount mX35_last mX35_next mX35_values mX35_coming mX35_counting mX35_gathering mX35_together mX35_held mX35_work mX35_large mX83_head mX83_parts mX83_kind mX83_variable mX84_sort mX84_name mX84_x mX84_y mJ1_modCount mJ2_elementData mJ2_size mJ4_words mJ4_wordsInUse mJ4_sizeIsSticky) a (.inr (ci 5, [.int (mX84_sort a), .int v, .int (mX84_x a), .int (mX84_y a)])) = (cRE ci d kd an ai al ar mX35_said mX35_rules mX35_strata mX35_needs mX35_safe mX35_circle mX35_known mX35_holds mX35_rounds mX35_counts mX35_roundCount mX35_last mX35_next mX35_values mX35_coming mX35_counting mX35_gathering mX35_together mX35_held mX35_work mX35_large mX83_head mX83_parts mX83_kind mX83_variable mX84_sort (va_up mX84_name a v) mX84_x mX84_y mJ1_modCount mJ2_elementData mJ2_size mJ4_words mJ4_wordsInUse mJ4_sizeIsSticky) := by
  funext b
  by_cases h : b = a
  · subst h
    rw [va_up_self]
    unfold cRE
    rw [hk]
    simp only [va_up_self]
  · rw [va_up_ne _ _ h]
    unfold cRE
    simp only [va_up_ne _ _ h]
theorem cRE_6_2 {ci : Nat → Nat} {d : Nat → ClassId} {kd : Nat → Nat} {an : Nat → Nat} {ai : Nat → Nat → Int32} {al : Nat → Nat → Int64} {ar : Nat → Nat → Option Nat} {mX35_said : Nat → Option Nat} {mX35_rules : Nat → Option Nat} {mX35_strata : Nat → Option Nat} {mX35_needs : Nat → Option Nat} {mX35_safe : Nat → Option Nat} {mX35_circle : Nat → Int32} {mX35_known : Nat → Int32} {mX35_holds : Nat → Option Nat} {mX35_rounds : Nat → Option Nat} {mX35_counts : Nat → Option Nat} {mX35_roundCount : Nat → Int32} {mX35_last : Nat → Option Nat} {mX35_next : Nat → Option Nat} {mX35_values : Nat → Option Nat} {mX35_coming : Nat → Option Nat} {mX35_counting : Nat → Option Nat} {mX35_gathering : Nat → Option Nat} {mX35_together : Nat → Option Nat} {mX35_held : Nat → Option Nat} {mX35_work : Nat → Int64} {mX35_large : Nat → Int32} {mX83_head : Nat → Option Nat} {mX83_parts : Nat → Option Nat} {mX83_kind : Nat → Int32} {mX83_variable : Nat → Int32} {mX84_sort : Nat → Int32} {mX84_name : Nat → Int32} {mX84_x : Nat → Int32} {mX84_y : Nat → Int32} {mJ1_modCount : Nat → Int32} {mJ2_elementData : Nat → Option Nat} {mJ2_size : Nat → Int32} {mJ4_words : Nat → Option Nat} {mJ4_wordsInUse : Nat → Int32} {mJ4_sizeIsSticky : Nat → Int32} {a : Nat} {v : Int32} (hk : kd a = 6) : va_up (cRE ci d kd an ai al ar mX35_said mX35_rules mX35_strata mX35_needs mX35_safe mX35_circle mX35_known mX35_holds mX35_rounds mX35_counts mX35_roundCount mX35_last mX35_next mX35_values mX35_coming mX35_counting mX35_gathering mX35_together mX35_held mX35_work mX35_large mX83_head mX83_parts mX83_kind mX83_variable mX84_sort mX84_name mX84_x mX84_y mJ1_modCount mJ2_elementData mJ2_size mJ4_words mJ4_wordsInUse mJ4_sizeIsSticky) a (.inr (ci 5, [.int (mX84_sort a), .int (mX84_name a), .int v, .int (mX84_y a)])) = (cRE ci d kd an ai al ar mX35_said mX35_rules mX35_strata mX35_needs mX35_safe mX35_circle mX35_known mX35_holds mX35_rounds mX35_counts mX35_roundCount mX35_last mX35_next mX35_values mX35_coming mX35_counting mX35_gathering mX35_together mX35_held mX35_work mX35_large mX83_head mX83_parts mX83_kind mX83_variable mX84_sort mX84_name (va_up mX84_x a v) mX84_y mJ1_modCount mJ2_elementData mJ2_size mJ4_words mJ4_wordsInUse mJ4_sizeIsSticky) := by
  funext b
  by_cases h : b = a
  · subst h
    rw [va_up_self]
    unfold cRE
    rw [hk]
    simp only [va_up_self]
  · rw [va_up_ne _ _ h]
    unfold cRE
    simp only [va_up_ne _ _ h]
theorem cRE_6_3 {ci : Nat → Nat} {d : Nat → ClassId} {kd : Nat → Nat} {an : Nat → Nat} {ai : Nat → Nat → Int32} {al : Nat → Nat → Int64} {ar : Nat → Nat → Option Nat} {mX35_said : Nat → Option Nat} {mX35_rules : Nat → Option Nat} {mX35_strata : Nat → Option Nat} {mX35_needs : Nat → Option Nat} {mX35_safe : Nat → Option Nat} {mX35_circle : Nat → Int32} {mX35_known : Nat → Int32} {mX35_holds : Nat → Option Nat} {mX35_rounds : Nat → Option Nat} {mX35_counts : Nat → Option Nat} {mX35_roundCount : Nat → Int32} {mX35_last : Nat → Option Nat} {mX35_next : Nat → Option Nat} {mX35_values : Nat → Option Nat} {mX35_coming : Nat → Option Nat} {mX35_counting : Nat → Option Nat} {mX35_gathering : Nat → Option Nat} {mX35_together : Nat → Option Nat} {mX35_held : Nat → Option Nat} {mX35_work : Nat → Int64} {mX35_large : Nat → Int32} {mX83_head : Nat → Option Nat} {mX83_parts : Nat → Option Nat} {mX83_kind : Nat → Int32} {mX83_variable : Nat → Int32} {mX84_sort : Nat → Int32} {mX84_name : Nat → Int32} {mX84_x : Nat → Int32} {mX84_y : Nat → Int32} {mJ1_modCount : Nat → Int32} {mJ2_elementData : Nat → Option Nat} {mJ2_size : Nat → Int32} {mJ4_words : Nat → Option Nat} {mJ4_wordsInUse : Nat → Int32} {mJ4_sizeIsSticky : Nat → Int32} {a : Nat} {v : Int32} (hk : kd a = 6) : va_up (cRE ci d kd an ai al ar mX35_said mX35_rules mX35_strata mX35_needs mX35_safe mX35_circle mX35_known mX35_holds mX35_rounds mX35_counts mX35_roundCount mX35_last mX35_next mX35_values mX35_coming mX35_counting mX35_gathering mX35_together mX35_held mX35_work mX35_large mX83_head mX83_parts mX83_kind mX83_variable mX84_sort mX84_name mX84_x mX84_y mJ1_modCount mJ2_elementData mJ2_size mJ4_words mJ4_wordsInUse mJ4_sizeIsSticky) a (.inr (ci 5, [.int (mX84_sort a), .int (mX84_name a), .int (mX84_x a), .int v])) = (cRE ci d kd an ai al ar mX35_said mX35_rules mX35_strata mX35_needs mX35_safe mX35_circle mX35_known mX35_holds mX35_rounds mX35_counts mX35_roundCount mX35_last mX35_next mX35_values mX35_coming mX35_counting mX35_gathering mX35_together mX35_held mX35_work mX35_large mX83_head mX83_parts mX83_kind mX83_variable mX84_sort mX84_name mX84_x (va_up mX84_y a v) mJ1_modCount mJ2_elementData mJ2_size mJ4_words mJ4_wordsInUse mJ4_sizeIsSticky) := by
  funext b
  by_cases h : b = a
  · subst h
    rw [va_up_self]
    unfold cRE
    rw [hk]
    simp only [va_up_self]
  · rw [va_up_ne _ _ h]
    unfold cRE
    simp only [va_up_ne _ _ h]
theorem cRE_6_n {ci : Nat → Nat} {d : Nat → ClassId} {kd : Nat → Nat} {an : Nat → Nat} {ai : Nat → Nat → Int32} {al : Nat → Nat → Int64} {ar : Nat → Nat → Option Nat} {mX35_said : Nat → Option Nat} {mX35_rules : Nat → Option Nat} {mX35_strata : Nat → Option Nat} {mX35_needs : Nat → Option Nat} {mX35_safe : Nat → Option Nat} {mX35_circle : Nat → Int32} {mX35_known : Nat → Int32} {mX35_holds : Nat → Option Nat} {mX35_rounds : Nat → Option Nat} {mX35_counts : Nat → Option Nat} {mX35_roundCount : Nat → Int32} {mX35_last : Nat → Option Nat} {mX35_next : Nat → Option Nat} {mX35_values : Nat → Option Nat} {mX35_coming : Nat → Option Nat} {mX35_counting : Nat → Option Nat} {mX35_gathering : Nat → Option Nat} {mX35_together : Nat → Option Nat} {mX35_held : Nat → Option Nat} {mX35_work : Nat → Int64} {mX35_large : Nat → Int32} {mX83_head : Nat → Option Nat} {mX83_parts : Nat → Option Nat} {mX83_kind : Nat → Int32} {mX83_variable : Nat → Int32} {mX84_sort : Nat → Int32} {mX84_name : Nat → Int32} {mX84_x : Nat → Int32} {mX84_y : Nat → Int32} {mJ1_modCount : Nat → Int32} {mJ2_elementData : Nat → Option Nat} {mJ2_size : Nat → Int32} {mJ4_words : Nat → Option Nat} {mJ4_wordsInUse : Nat → Int32} {mJ4_sizeIsSticky : Nat → Int32} (q : Nat) : va_up (cRE ci d kd an ai al ar mX35_said mX35_rules mX35_strata mX35_needs mX35_safe mX35_circle mX35_known mX35_holds mX35_rounds mX35_counts mX35_roundCount mX35_last mX35_next mX35_values mX35_coming mX35_counting mX35_gathering mX35_together mX35_held mX35_work mX35_large mX83_head mX83_parts mX83_kind mX83_variable mX84_sort mX84_name mX84_x mX84_y mJ1_modCount mJ2_elementData mJ2_size mJ4_words mJ4_wordsInUse mJ4_sizeIsSticky) q (.inr (ci 5, [.int 0, .int 0, .int 0, .int 0])) = (cRE ci d (va_up kd q 6) an ai al ar mX35_said mX35_rules mX35_strata mX35_needs mX35_safe mX35_circle mX35_known mX35_holds mX35_rounds mX35_counts mX35_roundCount mX35_last mX35_next mX35_values mX35_coming mX35_counting mX35_gathering mX35_together mX35_held mX35_work mX35_large mX83_head mX83_parts mX83_kind mX83_variable (va_up mX84_sort q 0) (va_up mX84_name q 0) (va_up mX84_x q 0) (va_up mX84_y q 0) mJ1_modCount mJ2_elementData mJ2_size mJ4_words mJ4_wordsInUse mJ4_sizeIsSticky) := by
  funext b
  by_cases h : b = q
  · subst h
    rw [va_up_self]
    unfold cRE
    simp only [va_up_self]
  · rw [va_up_ne _ _ h]
    unfold cRE
    simp only [va_up_ne _ _ h]
theorem cRE_7 {ci : Nat → Nat} {d : Nat → ClassId} {kd : Nat → Nat} {an : Nat → Nat} {ai : Nat → Nat → Int32} {al : Nat → Nat → Int64} {ar : Nat → Nat → Option Nat} {mX35_said : Nat → Option Nat} {mX35_rules : Nat → Option Nat} {mX35_strata : Nat → Option Nat} {mX35_needs : Nat → Option Nat} {mX35_safe : Nat → Option Nat} {mX35_circle : Nat → Int32} {mX35_known : Nat → Int32} {mX35_holds : Nat → Option Nat} {mX35_rounds : Nat → Option Nat} {mX35_counts : Nat → Option Nat} {mX35_roundCount : Nat → Int32} {mX35_last : Nat → Option Nat} {mX35_next : Nat → Option Nat} {mX35_values : Nat → Option Nat} {mX35_coming : Nat → Option Nat} {mX35_counting : Nat → Option Nat} {mX35_gathering : Nat → Option Nat} {mX35_together : Nat → Option Nat} {mX35_held : Nat → Option Nat} {mX35_work : Nat → Int64} {mX35_large : Nat → Int32} {mX83_head : Nat → Option Nat} {mX83_parts : Nat → Option Nat} {mX83_kind : Nat → Int32} {mX83_variable : Nat → Int32} {mX84_sort : Nat → Int32} {mX84_name : Nat → Int32} {mX84_x : Nat → Int32} {mX84_y : Nat → Int32} {mJ1_modCount : Nat → Int32} {mJ2_elementData : Nat → Option Nat} {mJ2_size : Nat → Int32} {mJ4_words : Nat → Option Nat} {mJ4_wordsInUse : Nat → Int32} {mJ4_sizeIsSticky : Nat → Int32} {a : Nat} (hk : kd a = 7) : (cRE ci d kd an ai al ar mX35_said mX35_rules mX35_strata mX35_needs mX35_safe mX35_circle mX35_known mX35_holds mX35_rounds mX35_counts mX35_roundCount mX35_last mX35_next mX35_values mX35_coming mX35_counting mX35_gathering mX35_together mX35_held mX35_work mX35_large mX83_head mX83_parts mX83_kind mX83_variable mX84_sort mX84_name mX84_x mX84_y mJ1_modCount mJ2_elementData mJ2_size mJ4_words mJ4_wordsInUse mJ4_sizeIsSticky) a = .inr (ci 6, [.int (mJ1_modCount a), va_rf (mJ2_elementData a), .int (mJ2_size a)]) := by unfold cRE; simp only [hk]
theorem cRE_7_0 {ci : Nat → Nat} {d : Nat → ClassId} {kd : Nat → Nat} {an : Nat → Nat} {ai : Nat → Nat → Int32} {al : Nat → Nat → Int64} {ar : Nat → Nat → Option Nat} {mX35_said : Nat → Option Nat} {mX35_rules : Nat → Option Nat} {mX35_strata : Nat → Option Nat} {mX35_needs : Nat → Option Nat} {mX35_safe : Nat → Option Nat} {mX35_circle : Nat → Int32} {mX35_known : Nat → Int32} {mX35_holds : Nat → Option Nat} {mX35_rounds : Nat → Option Nat} {mX35_counts : Nat → Option Nat} {mX35_roundCount : Nat → Int32} {mX35_last : Nat → Option Nat} {mX35_next : Nat → Option Nat} {mX35_values : Nat → Option Nat} {mX35_coming : Nat → Option Nat} {mX35_counting : Nat → Option Nat} {mX35_gathering : Nat → Option Nat} {mX35_together : Nat → Option Nat} {mX35_held : Nat → Option Nat} {mX35_work : Nat → Int64} {mX35_large : Nat → Int32} {mX83_head : Nat → Option Nat} {mX83_parts : Nat → Option Nat} {mX83_kind : Nat → Int32} {mX83_variable : Nat → Int32} {mX84_sort : Nat → Int32} {mX84_name : Nat → Int32} {mX84_x : Nat → Int32} {mX84_y : Nat → Int32} {mJ1_modCount : Nat → Int32} {mJ2_elementData : Nat → Option Nat} {mJ2_size : Nat → Int32} {mJ4_words : Nat → Option Nat} {mJ4_wordsInUse : Nat → Int32} {mJ4_sizeIsSticky : Nat → Int32} {a : Nat} {v : Int32} (hk : kd a = 7) : va_up (cRE ci d kd an ai al ar mX35_said mX35_rules mX35_strata mX35_needs mX35_safe mX35_circle mX35_known mX35_holds mX35_rounds mX35_counts mX35_roundCount mX35_last mX35_next mX35_values mX35_coming mX35_counting mX35_gathering mX35_together mX35_held mX35_work mX35_large mX83_head mX83_parts mX83_kind mX83_variable mX84_sort mX84_name mX84_x mX84_y mJ1_modCount mJ2_elementData mJ2_size mJ4_words mJ4_wordsInUse mJ4_sizeIsSticky) a (.inr (ci 6, [.int v, va_rf (mJ2_elementData a), .int (mJ2_size a)])) = (cRE ci d kd an ai al ar mX35_said mX35_rules mX35_strata mX35_needs mX35_safe mX35_circle mX35_known mX35_holds mX35_rounds mX35_counts mX35_roundCount mX35_last mX35_next mX35_values mX35_coming mX35_counting mX35_gathering mX35_together mX35_held mX35_work mX35_large mX83_head mX83_parts mX83_kind mX83_variable mX84_sort mX84_name mX84_x mX84_y (va_up mJ1_modCount a v) mJ2_elementData mJ2_size mJ4_words mJ4_wordsInUse mJ4_sizeIsSticky) := by
  funext b
  by_cases h : b = a
  · subst h
    rw [va_up_self]
    unfold cRE
    rw [hk]
    simp only [va_up_self]
  · rw [va_up_ne _ _ h]
    unfold cRE
    simp only [va_up_ne _ _ h]
theorem cRE_7_1 {ci : Nat → Nat} {d : Nat → ClassId} {kd : Nat → Nat} {an : Nat → Nat} {ai : Nat → Nat → Int32} {al : Nat → Nat → Int64} {ar : Nat → Nat → Option Nat} {mX35_said : Nat → Option Nat} {mX35_rules : Nat → Option Nat} {mX35_strata : Nat → Option Nat} {mX35_needs : Nat → Option Nat} {mX35_safe : Nat → Option Nat} {mX35_circle : Nat → Int32} {mX35_known : Nat → Int32} {mX35_holds : Nat → Option Nat} {mX35_rounds : Nat → Option Nat} {mX35_counts : Nat → Option Nat} {mX35_roundCount : Nat → Int32} {mX35_last : Nat → Option Nat} {mX35_next : Nat → Option Nat} {mX35_values : Nat → Option Nat} {mX35_coming : Nat → Option Nat} {mX35_counting : Nat → Option Nat} {mX35_gathering : Nat → Option Nat} {mX35_together : Nat → Option Nat} {mX35_held : Nat → Option Nat} {mX35_work : Nat → Int64} {mX35_large : Nat → Int32} {mX83_head : Nat → Option Nat} {mX83_parts : Nat → Option Nat} {mX83_kind : Nat → Int32} {mX83_variable : Nat → Int32} {mX84_sort : Nat → Int32} {mX84_name : Nat → Int32} {mX84_x : Nat → Int32} {mX84_y : Nat → Int32} {mJ1_modCount : Nat → Int32} {mJ2_elementData : Nat → Option Nat} {mJ2_size : Nat → Int32} {mJ4_words : Nat → Option Nat} {mJ4_wordsInUse : Nat → Int32} {mJ4_sizeIsSticky : Nat → Int32} {a : Nat} {v : Option Nat} (hk : kd a = 7) : va_up (cRE ci d kd an ai al ar mX35_said mX35_rules mX35_strata mX35_needs mX35_safe mX35_circle mX35_known mX35_holds mX35_rounds mX35_counts mX35_roundCount mX35_last mX35_next mX35_values mX35_coming mX35_counting mX35_gathering mX35_together mX35_held mX35_work mX35_large mX83_head mX83_parts mX83_kind mX83_variable mX84_sort mX84_name mX84_x mX84_y mJ1_modCount mJ2_elementData mJ2_size mJ4_words mJ4_wordsInUse mJ4_sizeIsSticky) a (.inr (ci 6, [.int (mJ1_modCount a), va_rf v, .int (mJ2_size a)])) = (cRE ci d kd an ai al ar mX35_said mX35_rules mX35_strata mX35_needs mX35_safe mX35_circle mX35_known mX35_holds mX35_rounds mX35_counts mX35_roundCount mX35_last mX35_next mX35_values mX35_coming mX35_counting mX35_gathering mX35_together mX35_held mX35_work mX35_large mX83_head mX83_parts mX83_kind mX83_variable mX84_sort mX84_name mX84_x mX84_y mJ1_modCount (va_up mJ2_elementData a v) mJ2_size mJ4_words mJ4_wordsInUse mJ4_sizeIsSticky) := by
  funext b
  by_cases h : b = a
  · subst h
    rw [va_up_self]
    unfold cRE
    rw [hk]
    simp only [va_up_self]
  · rw [va_up_ne _ _ h]
    unfold cRE
    simp only [va_up_ne _ _ h]
theorem cRE_7_2 {ci : Nat → Nat} {d : Nat → ClassId} {kd : Nat → Nat} {an : Nat → Nat} {ai : Nat → Nat → Int32} {al : Nat → Nat → Int64} {ar : Nat → Nat → Option Nat} {mX35_said : Nat → Option Nat} {mX35_rules : Nat → Option Nat} {mX35_strata : Nat → Option Nat} {mX35_needs : Nat → Option Nat} {mX35_safe : Nat → Option Nat} {mX35_circle : Nat → Int32} {mX35_known : Nat → Int32} {mX35_holds : Nat → Option Nat} {mX35_rounds : Nat → Option Nat} {mX35_counts : Nat → Option Nat} {mX35_roundCount : Nat → Int32} {mX35_last : Nat → Option Nat} {mX35_next : Nat → Option Nat} {mX35_values : Nat → Option Nat} {mX35_coming : Nat → Option Nat} {mX35_counting : Nat → Option Nat} {mX35_gathering : Nat → Option Nat} {mX35_together : Nat → Option Nat} {mX35_held : Nat → Option Nat} {mX35_work : Nat → Int64} {mX35_large : Nat → Int32} {mX83_head : Nat → Option Nat} {mX83_parts : Nat → Option Nat} {mX83_kind : Nat → Int32} {mX83_variable : Nat → Int32} {mX84_sort : Nat → Int32} {mX84_name : Nat → Int32} {mX84_x : Nat → Int32} {mX84_y : Nat → Int32} {mJ1_modCount : Nat → Int32} {mJ2_elementData : Nat → Option Nat} {mJ2_size : Nat → Int32} {mJ4_words : Nat → Option Nat} {mJ4_wordsInUse : Nat → Int32} {mJ4_sizeIsSticky : Nat → Int32} {a : Nat} {v : Int32} (hk : kd a = 7) : va_up (cRE ci d kd an ai al ar mX35_said mX35_rules mX35_strata mX35_needs mX35_safe mX35_circle mX35_known mX35_holds mX35_rounds mX35_counts mX35_roundCount mX35_last mX35_next mX35_values mX35_coming mX35_counting mX35_gathering mX35_together mX35_held mX35_work mX35_large mX83_head mX83_parts mX83_kind mX83_variable mX84_sort mX84_name mX84_x mX84_y mJ1_modCount mJ2_elementData mJ2_size mJ4_words mJ4_wordsInUse mJ4_sizeIsSticky) a (.inr (ci 6, [.int (mJ1_modCount a), va_rf (mJ2_elementData a), .int v])) = (cRE ci d kd an ai al ar mX35_said mX35_rules mX35_strata mX35_needs mX35_safe mX35_circle mX35_known mX35_holds mX35_rounds mX35_counts mX35_roundCount mX35_last mX35_next mX35_values mX35_coming mX35_counting mX35_gathering mX35_together mX35_held mX35_work mX35_large mX83_head mX83_parts mX83_kind mX83_variable mX84_sort mX84_name mX84_x mX84_y mJ1_modCount mJ2_elementData (va_up mJ2_size a v) mJ4_words mJ4_wordsInUse mJ4_sizeIsSticky) := by
  funext b
  by_cases h : b = a
  · subst h
    rw [va_up_self]
    unfold cRE
    rw [hk]
    simp only [va_up_self]
  · rw [va_up_ne _ _ h]
    unfold cRE
    simp only [va_up_ne _ _ h]
theorem cRE_7_n {ci : Nat → Nat} {d : Nat → ClassId} {kd : Nat → Nat} {an : Nat → Nat} {ai : Nat → Nat → Int32} {al : Nat → Nat → Int64} {ar : Nat → Nat → Option Nat} {mX35_said : Nat → Option Nat} {mX35_rules : Nat → Option Nat} {mX35_strata : Nat → Option Nat} {mX35_needs : Nat → Option Nat} {mX35_safe : Nat → Option Nat} {mX35_circle : Nat → Int32} {mX35_known : Nat → Int32} {mX35_holds : Nat → Option Nat} {mX35_rounds : Nat → Option Nat} {mX35_counts : Nat → Option Nat} {mX35_roundCount : Nat → Int32} {mX35_last : Nat → Option Nat} {mX35_next : Nat → Option Nat} {mX35_values : Nat → Option Nat} {mX35_coming : Nat → Option Nat} {mX35_counting : Nat → Option Nat} {mX35_gathering : Nat → Option Nat} {mX35_together : Nat → Option Nat} {mX35_held : Nat → Option Nat} {mX35_work : Nat → Int64} {mX35_large : Nat → Int32} {mX83_head : Nat → Option Nat} {mX83_parts : Nat → Option Nat} {mX83_kind : Nat → Int32} {mX83_variable : Nat → Int32} {mX84_sort : Nat → Int32} {mX84_name : Nat → Int32} {mX84_x : Nat → Int32} {mX84_y : Nat → Int32} {mJ1_modCount : Nat → Int32} {mJ2_elementData : Nat → Option Nat} {mJ2_size : Nat → Int32} {mJ4_words : Nat → Option Nat} {mJ4_wordsInUse : Nat → Int32} {mJ4_sizeIsSticky : Nat → Int32} (q : Nat) : va_up (cRE ci d kd an ai al ar mX35_said mX35_rules mX35_strata mX35_needs mX35_safe mX35_circle mX35_known mX35_holds mX35_rounds mX35_counts mX35_roundCount mX35_last mX35_next mX35_values mX35_coming mX35_counting mX35_gathering mX35_together mX35_held mX35_work mX35_large mX83_head mX83_parts mX83_kind mX83_variable mX84_sort mX84_name mX84_x mX84_y mJ1_modCount mJ2_elementData mJ2_size mJ4_words mJ4_wordsInUse mJ4_sizeIsSticky) q (.inr (ci 6, [.int 0, va_rf none, .int 0])) = (cRE ci d (va_up kd q 7) an ai al ar mX35_said mX35_rules mX35_strata mX35_needs mX35_safe mX35_circle mX35_known mX35_holds mX35_rounds mX35_counts mX35_roundCount mX35_last mX35_next mX35_values mX35_coming mX35_counting mX35_gathering mX35_together mX35_held mX35_work mX35_large mX83_head mX83_parts mX83_kind mX83_variable mX84_sort mX84_name mX84_x mX84_y (va_up mJ1_modCount q 0) (va_up mJ2_elementData q none) (va_up mJ2_size q 0) mJ4_words mJ4_wordsInUse mJ4_sizeIsSticky) := by
  funext b
  by_cases h : b = q
  · subst h
    rw [va_up_self]
    unfold cRE
    simp only [va_up_self]
  · rw [va_up_ne _ _ h]
    unfold cRE
    simp only [va_up_ne _ _ h]
theorem cRE_8 {ci : Nat → Nat} {d : Nat → ClassId} {kd : Nat → Nat} {an : Nat → Nat} {ai : Nat → Nat → Int32} {al : Nat → Nat → Int64} {ar : Nat → Nat → Option Nat} {mX35_said : Nat → Option Nat} {mX35_rules : Nat → Option Nat} {mX35_strata : Nat → Option Nat} {mX35_needs : Nat → Option Nat} {mX35_safe : Nat → Option Nat} {mX35_circle : Nat → Int32} {mX35_known : Nat → Int32} {mX35_holds : Nat → Option Nat} {mX35_rounds : Nat → Option Nat} {mX35_counts : Nat → Option Nat} {mX35_roundCount : Nat → Int32} {mX35_last : Nat → Option Nat} {mX35_next : Nat → Option Nat} {mX35_values : Nat → Option Nat} {mX35_coming : Nat → Option Nat} {mX35_counting : Nat → Option Nat} {mX35_gathering : Nat → Option Nat} {mX35_together : Nat → Option Nat} {mX35_held : Nat → Option Nat} {mX35_work : Nat → Int64} {mX35_large : Nat → Int32} {mX83_head : Nat → Option Nat} {mX83_parts : Nat → Option Nat} {mX83_kind : Nat → Int32} {mX83_variable : Nat → Int32} {mX84_sort : Nat → Int32} {mX84_name : Nat → Int32} {mX84_x : Nat → Int32} {mX84_y : Nat → Int32} {mJ1_modCount : Nat → Int32} {mJ2_elementData : Nat → Option Nat} {mJ2_size : Nat → Int32} {mJ4_words : Nat → Option Nat} {mJ4_wordsInUse : Nat → Int32} {mJ4_sizeIsSticky : Nat → Int32} {a : Nat} (hk : kd a = 8) : (cRE ci d kd an ai al ar mX35_said mX35_rules mX35_strata mX35_needs mX35_safe mX35_circle mX35_known mX35_holds mX35_rounds mX35_counts mX35_roundCount mX35_last mX35_next mX35_values mX35_coming mX35_counting mX35_gathering mX35_together mX35_held mX35_work mX35_large mX83_head mX83_parts mX83_kind mX83_variable mX84_sort mX84_name mX84_x mX84_y mJ1_modCount mJ2_elementData mJ2_size mJ4_words mJ4_wordsInUse mJ4_sizeIsSticky) a = .inr (ci 7, [va_rf (mJ4_words a), .int (mJ4_wordsInUse a), .int (mJ4_sizeIsSticky a)]) := by unfold cRE; simp only [hk]
theorem cRE_8_0 {ci : Nat → Nat} {d : Nat → ClassId} {kd : Nat → Nat} {an : Nat → Nat} {ai : Nat → Nat → Int32} {al : Nat → Nat → Int64} {ar : Nat → Nat → Option Nat} {mX35_said : Nat → Option Nat} {mX35_rules : Nat → Option Nat} {mX35_strata : Nat → Option Nat} {mX35_needs : Nat → Option Nat} {mX35_safe : Nat → Option Nat} {mX35_circle : Nat → Int32} {mX35_known : Nat → Int32} {mX35_holds : Nat → Option Nat} {mX35_rounds : Nat → Option Nat} {mX35_counts : Nat → Option Nat} {mX35_roundCount : Nat → Int32} {mX35_last : Nat → Option Nat} {mX35_next : Nat → Option Nat} {mX35_values : Nat → Option Nat} {mX35_coming : Nat → Option Nat} {mX35_counting : Nat → Option Nat} {mX35_gathering : Nat → Option Nat} {mX35_together : Nat → Option Nat} {mX35_held : Nat → Option Nat} {mX35_work : Nat → Int64} {mX35_large : Nat → Int32} {mX83_head : Nat → Option Nat} {mX83_parts : Nat → Option Nat} {mX83_kind : Nat → Int32} {mX83_variable : Nat → Int32} {mX84_sort : Nat → Int32} {mX84_name : Nat → Int32} {mX84_x : Nat → Int32} {mX84_y : Nat → Int32} {mJ1_modCount : Nat → Int32} {mJ2_elementData : Nat → Option Nat} {mJ2_size : Nat → Int32} {mJ4_words : Nat → Option Nat} {mJ4_wordsInUse : Nat → Int32} {mJ4_sizeIsSticky : Nat → Int32} {a : Nat} {v : Option Nat} (hk : kd a = 8) : va_up (cRE ci d kd an ai al ar mX35_said mX35_rules mX35_strata mX35_needs mX35_safe mX35_circle mX35_known mX35_holds mX35_rounds mX35_counts mX35_roundCount mX35_last mX35_next mX35_values mX35_coming mX35_counting mX35_gathering mX35_together mX35_held mX35_work mX35_large mX83_head mX83_parts mX83_kind mX83_variable mX84_sort mX84_name mX84_x mX84_y mJ1_modCount mJ2_elementData mJ2_size mJ4_words mJ4_wordsInUse mJ4_sizeIsSticky) a (.inr (ci 7, [va_rf v, .int (mJ4_wordsInUse a), .int (mJ4_sizeIsSticky a)])) = (cRE ci d kd an ai al ar mX35_said mX35_rules mX35_strata mX35_needs mX35_safe mX35_circle mX35_known mX35_holds mX35_rounds mX35_counts mX35_roundCount mX35_last mX35_next mX35_values mX35_coming mX35_counting mX35_gathering mX35_together mX35_held mX35_work mX35_large mX83_head mX83_parts mX83_kind mX83_variable mX84_sort mX84_name mX84_x mX84_y mJ1_modCount mJ2_elementData mJ2_size (va_up mJ4_words a v) mJ4_wordsInUse mJ4_sizeIsSticky) := by
  funext b
  by_cases h : b = a
  · subst h
    rw [va_up_self]
    unfold cRE
    rw [hk]
    simp only [va_up_self]
  · rw [va_up_ne _ _ h]
    unfold cRE
    simp only [va_up_ne _ _ h]
theorem cRE_8_1 {ci : Nat → Nat} {d : Nat → ClassId} {kd : Nat → Nat} {an : Nat → Nat} {ai : Nat → Nat → Int32} {al : Nat → Nat → Int64} {ar : Nat → Nat → Option Nat} {mX35_said : Nat → Option Nat} {mX35_rules : Nat → Option Nat} {mX35_strata : Nat → Option Nat} {mX35_needs : Nat → Option Nat} {mX35_safe : Nat → Option Nat} {mX35_circle : Nat → Int32} {mX35_known : Nat → Int32} {mX35_holds : Nat → Option Nat} {mX35_rounds : Nat → Option Nat} {mX35_counts : Nat → Option Nat} {mX35_roundCount : Nat → Int32} {mX35_last : Nat → Option Nat} {mX35_next : Nat → Option Nat} {mX35_values : Nat → Option Nat} {mX35_coming : Nat → Option Nat} {mX35_counting : Nat → Option Nat} {mX35_gathering : Nat → Option Nat} {mX35_together : Nat → Option Nat} {mX35_held : Nat → Option Nat} {mX35_work : Nat → Int64} {mX35_large : Nat → Int32} {mX83_head : Nat → Option Nat} {mX83_parts : Nat → Option Nat} {mX83_kind : Nat → Int32} {mX83_variable : Nat → Int32} {mX84_sort : Nat → Int32} {mX84_name : Nat → Int32} {mX84_x : Nat → Int32} {mX84_y : Nat → Int32} {mJ1_modCount : Nat → Int32} {mJ2_elementData : Nat → Option Nat} {mJ2_size : Nat → Int32} {mJ4_words : Nat → Option Nat} {mJ4_wordsInUse : Nat → Int32} {mJ4_sizeIsSticky : Nat → Int32} {a : Nat} {v : Int32} (hk : kd a = 8) : va_up (cRE ci d kd an ai al ar mX35_said mX35_rules mX35_strata mX35_needs mX35_safe mX35_circle mX35_known mX35_holds mX35_rounds mX35_counts mX35_roundCount mX35_last mX35_next mX35_values mX35_coming mX35_counting mX35_gathering mX35_together mX35_held mX35_work mX35_large mX83_head mX83_parts mX83_kind mX83_variable mX84_sort mX84_name mX84_x mX84_y mJ1_modCount mJ2_elementData mJ2_size mJ4_words mJ4_wordsInUse mJ4_sizeIsSticky) a (.inr (ci 7, [va_rf (mJ4_words a), .int v, .int (mJ4_sizeIsSticky a)])) = (cRE ci d kd an ai al ar mX35_said mX35_rules mX35_strata mX35_needs mX35_safe mX35_circle mX35_known mX35_holds mX35_rounds mX35_counts mX35_roundCount mX35_last mX35_next mX35_values mX35_coming mX35_counting mX35_gathering mX35_together mX35_held mX35_work mX35_large mX83_head mX83_parts mX83_kind mX83_variable mX84_sort mX84_name mX84_x mX84_y mJ1_modCount mJ2_elementData mJ2_size mJ4_words (va_up mJ4_wordsInUse a v) mJ4_sizeIsSticky) := by
  funext b
  by_cases h : b = a
  · subst h
    rw [va_up_self]
    unfold cRE
    rw [hk]
    simp only [va_up_self]
  · rw [va_up_ne _ _ h]
    unfold cRE
    simp only [va_up_ne _ _ h]
theorem cRE_8_2 {ci : Nat → Nat} {d : Nat → ClassId} {kd : Nat → Nat} {an : Nat → Nat} {ai : Nat → Nat → Int32} {al : Nat → Nat → Int64} {ar : Nat → Nat → Option Nat} {mX35_said : Nat → Option Nat} {mX35_rules : Nat → Option Nat} {mX35_strata : Nat → Option Nat} {mX35_needs : Nat → Option Nat} {mX35_safe : Nat → Option Nat} {mX35_circle : Nat → Int32} {mX35_known : Nat → Int32} {mX35_holds : Nat → Option Nat} {mX35_rounds : Nat → Option Nat} {mX35_counts : Nat → Option Nat} {mX35_roundCount : Nat → Int32} {mX35_last : Nat → Option Nat} {mX35_next : Nat → Option Nat} {mX35_values : Nat → Option Nat} {mX35_coming : Nat → Option Nat} {mX35_counting : Nat → Option Nat} {mX35_gathering : Nat → Option Nat} {mX35_together : Nat → Option Nat} {mX35_held : Nat → Option Nat} {mX35_work : Nat → Int64} {mX35_large : Nat → Int32} {mX83_head : Nat → Option Nat} {mX83_parts : Nat → Option Nat} {mX83_kind : Nat → Int32} {mX83_variable : Nat → Int32} {mX84_sort : Nat → Int32} {mX84_name : Nat → Int32} {mX84_x : Nat → Int32} {mX84_y : Nat → Int32} {mJ1_modCount : Nat → Int32} {mJ2_elementData : Nat → Option Nat} {mJ2_size : Nat → Int32} {mJ4_words : Nat → Option Nat} {mJ4_wordsInUse : Nat → Int32} {mJ4_sizeIsSticky : Nat → Int32} {a : Nat} {v : Int32} (hk : kd a = 8) : va_up (cRE ci d kd an ai al ar mX35_said mX35_rules mX35_strata mX35_needs mX35_safe mX35_circle mX35_known mX35_holds mX35_rounds mX35_counts mX35_roundCount mX35_last mX35_next mX35_values mX35_coming mX35_counting mX35_gathering mX35_together mX35_held mX35_work mX35_large mX83_head mX83_parts mX83_kind mX83_variable mX84_sort mX84_name mX84_x mX84_y mJ1_modCount mJ2_elementData mJ2_size mJ4_words mJ4_wordsInUse mJ4_sizeIsSticky) a (.inr (ci 7, [va_rf (mJ4_words a), .int (mJ4_wordsInUse a), .int v])) = (cRE ci d kd an ai al ar mX35_said mX35_rules mX35_strata mX35_needs mX35_safe mX35_circle mX35_known mX35_holds mX35_rounds mX35_counts mX35_roundCount mX35_last mX35_next mX35_values mX35_coming mX35_counting mX35_gathering mX35_together mX35_held mX35_work mX35_large mX83_head mX83_parts mX83_kind mX83_variable mX84_sort mX84_name mX84_x mX84_y mJ1_modCount mJ2_elementData mJ2_size mJ4_words mJ4_wordsInUse (va_up mJ4_sizeIsSticky a v)) := by
  funext b
  by_cases h : b = a
  · subst h
    rw [va_up_self]
    unfold cRE
    rw [hk]
    simp only [va_up_self]
  · rw [va_up_ne _ _ h]
    unfold cRE
    simp only [va_up_ne _ _ h]
theorem cRE_8_n {ci : Nat → Nat} {d : Nat → ClassId} {kd : Nat → Nat} {an : Nat → Nat} {ai : Nat → Nat → Int32} {al : Nat → Nat → Int64} {ar : Nat → Nat → Option Nat} {mX35_said : Nat → Option Nat} {mX35_rules : Nat → Option Nat} {mX35_strata : Nat → Option Nat} {mX35_needs : Nat → Option Nat} {mX35_safe : Nat → Option Nat} {mX35_circle : Nat → Int32} {mX35_known : Nat → Int32} {mX35_holds : Nat → Option Nat} {mX35_rounds : Nat → Option Nat} {mX35_counts : Nat → Option Nat} {mX35_roundCount : Nat → Int32} {mX35_last : Nat → Option Nat} {mX35_next : Nat → Option Nat} {mX35_values : Nat → Option Nat} {mX35_coming : Nat → Option Nat} {mX35_counting : Nat → Option Nat} {mX35_gathering : Nat → Option Nat} {mX35_together : Nat → Option Nat} {mX35_held : Nat → Option Nat} {mX35_work : Nat → Int64} {mX35_large : Nat → Int32} {mX83_head : Nat → Option Nat} {mX83_parts : Nat → Option Nat} {mX83_kind : Nat → Int32} {mX83_variable : Nat → Int32} {mX84_sort : Nat → Int32} {mX84_name : Nat → Int32} {mX84_x : Nat → Int32} {mX84_y : Nat → Int32} {mJ1_modCount : Nat → Int32} {mJ2_elementData : Nat → Option Nat} {mJ2_size : Nat → Int32} {mJ4_words : Nat → Option Nat} {mJ4_wordsInUse : Nat → Int32} {mJ4_sizeIsSticky : Nat → Int32} (q : Nat) : va_up (cRE ci d kd an ai al ar mX35_said mX35_rules mX35_strata mX35_needs mX35_safe mX35_circle mX35_known mX35_holds mX35_rounds mX35_counts mX35_roundCount mX35_last mX35_next mX35_values mX35_coming mX35_counting mX35_gathering mX35_together mX35_held mX35_work mX35_large mX83_head mX83_parts mX83_kind mX83_variable mX84_sort mX84_name mX84_x mX84_y mJ1_modCount mJ2_elementData mJ2_size mJ4_words mJ4_wordsInUse mJ4_sizeIsSticky) q (.inr (ci 7, [va_rf none, .int 0, .int 0])) = (cRE ci d (va_up kd q 8) an ai al ar mX35_said mX35_rules mX35_strata mX35_needs mX35_safe mX35_circle mX35_known mX35_holds mX35_rounds mX35_counts mX35_roundCount mX35_last mX35_next mX35_values mX35_coming mX35_counting mX35_gathering mX35_together mX35_held mX35_work mX35_large mX83_head mX83_parts mX83_kind mX83_variable mX84_sort mX84_name mX84_x mX84_y mJ1_modCount mJ2_elementData mJ2_size (va_up mJ4_words q none) (va_up mJ4_wordsInUse q 0) (va_up mJ4_sizeIsSticky q 0)) := by
  funext b
  by_cases h : b = q
  · subst h
    rw [va_up_self]
    unfold cRE
    simp only [va_up_self]
  · rw [va_up_ne _ _ h]
    unfold cRE
    simp only [va_up_ne _ _ h]
theorem cRE_9 {ci : Nat → Nat} {d : Nat → ClassId} {kd : Nat → Nat} {an : Nat → Nat} {ai : Nat → Nat → Int32} {al : Nat → Nat → Int64} {ar : Nat → Nat → Option Nat} {mX35_said : Nat → Option Nat} {mX35_rules : Nat → Option Nat} {mX35_strata : Nat → Option Nat} {mX35_needs : Nat → Option Nat} {mX35_safe : Nat → Option Nat} {mX35_circle : Nat → Int32} {mX35_known : Nat → Int32} {mX35_holds : Nat → Option Nat} {mX35_rounds : Nat → Option Nat} {mX35_counts : Nat → Option Nat} {mX35_roundCount : Nat → Int32} {mX35_last : Nat → Option Nat} {mX35_next : Nat → Option Nat} {mX35_values : Nat → Option Nat} {mX35_coming : Nat → Option Nat} {mX35_counting : Nat → Option Nat} {mX35_gathering : Nat → Option Nat} {mX35_together : Nat → Option Nat} {mX35_held : Nat → Option Nat} {mX35_work : Nat → Int64} {mX35_large : Nat → Int32} {mX83_head : Nat → Option Nat} {mX83_parts : Nat → Option Nat} {mX83_kind : Nat → Int32} {mX83_variable : Nat → Int32} {mX84_sort : Nat → Int32} {mX84_name : Nat → Int32} {mX84_x : Nat → Int32} {mX84_y : Nat → Int32} {mJ1_modCount : Nat → Int32} {mJ2_elementData : Nat → Option Nat} {mJ2_size : Nat → Int32} {mJ4_words : Nat → Option Nat} {mJ4_wordsInUse : Nat → Int32} {mJ4_sizeIsSticky : Nat → Int32} {a : Nat} (hk : kd a = 9) : (cRE ci d kd an ai al ar mX35_said mX35_rules mX35_strata mX35_needs mX35_safe mX35_circle mX35_known mX35_holds mX35_rounds mX35_counts mX35_roundCount mX35_last mX35_next mX35_values mX35_coming mX35_counting mX35_gathering mX35_together mX35_held mX35_work mX35_large mX83_head mX83_parts mX83_kind mX83_variable mX84_sort mX84_name mX84_x mX84_y mJ1_modCount mJ2_elementData mJ2_size mJ4_words mJ4_wordsInUse mJ4_sizeIsSticky) a = .inl (d 0, an a, .inl (ai a)) := by unfold cRE; simp only [hk]
theorem cRE_9_s {ci : Nat → Nat} {d : Nat → ClassId} {kd : Nat → Nat} {an : Nat → Nat} {ai : Nat → Nat → Int32} {al : Nat → Nat → Int64} {ar : Nat → Nat → Option Nat} {mX35_said : Nat → Option Nat} {mX35_rules : Nat → Option Nat} {mX35_strata : Nat → Option Nat} {mX35_needs : Nat → Option Nat} {mX35_safe : Nat → Option Nat} {mX35_circle : Nat → Int32} {mX35_known : Nat → Int32} {mX35_holds : Nat → Option Nat} {mX35_rounds : Nat → Option Nat} {mX35_counts : Nat → Option Nat} {mX35_roundCount : Nat → Int32} {mX35_last : Nat → Option Nat} {mX35_next : Nat → Option Nat} {mX35_values : Nat → Option Nat} {mX35_coming : Nat → Option Nat} {mX35_counting : Nat → Option Nat} {mX35_gathering : Nat → Option Nat} {mX35_together : Nat → Option Nat} {mX35_held : Nat → Option Nat} {mX35_work : Nat → Int64} {mX35_large : Nat → Int32} {mX83_head : Nat → Option Nat} {mX83_parts : Nat → Option Nat} {mX83_kind : Nat → Int32} {mX83_variable : Nat → Int32} {mX84_sort : Nat → Int32} {mX84_name : Nat → Int32} {mX84_x : Nat → Int32} {mX84_y : Nat → Int32} {mJ1_modCount : Nat → Int32} {mJ2_elementData : Nat → Option Nat} {mJ2_size : Nat → Int32} {mJ4_words : Nat → Option Nat} {mJ4_wordsInUse : Nat → Int32} {mJ4_sizeIsSticky : Nat → Int32} {a : Nat} {g : Nat → Int32} (hk : kd a = 9) : va_up (cRE ci d kd an ai al ar mX35_said mX35_rules mX35_strata mX35_needs mX35_safe mX35_circle mX35_known mX35_holds mX35_rounds mX35_counts mX35_roundCount mX35_last mX35_next mX35_values mX35_coming mX35_counting mX35_gathering mX35_together mX35_held mX35_work mX35_large mX83_head mX83_parts mX83_kind mX83_variable mX84_sort mX84_name mX84_x mX84_y mJ1_modCount mJ2_elementData mJ2_size mJ4_words mJ4_wordsInUse mJ4_sizeIsSticky) a (.inl (d 0, an a, .inl g)) = (cRE ci d kd an (va_up ai a g) al ar mX35_said mX35_rules mX35_strata mX35_needs mX35_safe mX35_circle mX35_known mX35_holds mX35_rounds mX35_counts mX35_roundCount mX35_last mX35_next mX35_values mX35_coming mX35_counting mX35_gathering mX35_together mX35_held mX35_work mX35_large mX83_head mX83_parts mX83_kind mX83_variable mX84_sort mX84_name mX84_x mX84_y mJ1_modCount mJ2_elementData mJ2_size mJ4_words mJ4_wordsInUse mJ4_sizeIsSticky) := by
  funext b
  by_cases h : b = a
  · subst h
    rw [va_up_self]
    unfold cRE
    rw [hk]
    simp only [va_up_self]
  · rw [va_up_ne _ _ h]
    unfold cRE
    simp only [va_up_ne _ _ h]
theorem cRE_9_n {ci : Nat → Nat} {d : Nat → ClassId} {kd : Nat → Nat} {an : Nat → Nat} {ai : Nat → Nat → Int32} {al : Nat → Nat → Int64} {ar : Nat → Nat → Option Nat} {mX35_said : Nat → Option Nat} {mX35_rules : Nat → Option Nat} {mX35_strata : Nat → Option Nat} {mX35_needs : Nat → Option Nat} {mX35_safe : Nat → Option Nat} {mX35_circle : Nat → Int32} {mX35_known : Nat → Int32} {mX35_holds : Nat → Option Nat} {mX35_rounds : Nat → Option Nat} {mX35_counts : Nat → Option Nat} {mX35_roundCount : Nat → Int32} {mX35_last : Nat → Option Nat} {mX35_next : Nat → Option Nat} {mX35_values : Nat → Option Nat} {mX35_coming : Nat → Option Nat} {mX35_counting : Nat → Option Nat} {mX35_gathering : Nat → Option Nat} {mX35_together : Nat → Option Nat} {mX35_held : Nat → Option Nat} {mX35_work : Nat → Int64} {mX35_large : Nat → Int32} {mX83_head : Nat → Option Nat} {mX83_parts : Nat → Option Nat} {mX83_kind : Nat → Int32} {mX83_variable : Nat → Int32} {mX84_sort : Nat → Int32} {mX84_name : Nat → Int32} {mX84_x : Nat → Int32} {mX84_y : Nat → Int32} {mJ1_modCount : Nat → Int32} {mJ2_elementData : Nat → Option Nat} {mJ2_size : Nat → Int32} {mJ4_words : Nat → Option Nat} {mJ4_wordsInUse : Nat → Int32} {mJ4_sizeIsSticky : Nat → Int32} (n q : Nat) : va_up (cRE ci d kd an ai al ar mX35_said mX35_rules mX35_strata mX35_needs mX35_safe mX35_circle mX35_known mX35_holds mX35_rounds mX35_counts mX35_roundCount mX35_last mX35_next mX35_values mX35_coming mX35_counting mX35_gathering mX35_together mX35_held mX35_work mX35_large mX83_head mX83_parts mX83_kind mX83_variable mX84_sort mX84_name mX84_x mX84_y mJ1_modCount mJ2_elementData mJ2_size mJ4_words mJ4_wordsInUse mJ4_sizeIsSticky) q (.inl (d 0, n, .inl (fun _ => 0))) = (cRE ci d (va_up kd q 9) (va_up an q n) (va_up ai q (fun _ => 0)) al ar mX35_said mX35_rules mX35_strata mX35_needs mX35_safe mX35_circle mX35_known mX35_holds mX35_rounds mX35_counts mX35_roundCount mX35_last mX35_next mX35_values mX35_coming mX35_counting mX35_gathering mX35_together mX35_held mX35_work mX35_large mX83_head mX83_parts mX83_kind mX83_variable mX84_sort mX84_name mX84_x mX84_y mJ1_modCount mJ2_elementData mJ2_size mJ4_words mJ4_wordsInUse mJ4_sizeIsSticky) := by
  funext b
  by_cases h : b = q
  · subst h
    rw [va_up_self]
    unfold cRE
    simp only [va_up_self]
  · rw [va_up_ne _ _ h]
    unfold cRE
    simp only [va_up_ne _ _ h]
theorem cRE_10 {ci : Nat → Nat} {d : Nat → ClassId} {kd : Nat → Nat} {an : Nat → Nat} {ai : Nat → Nat → Int32} {al : Nat → Nat → Int64} {ar : Nat → Nat → Option Nat} {mX35_said : Nat → Option Nat} {mX35_rules : Nat → Option Nat} {mX35_strata : Nat → Option Nat} {mX35_needs : Nat → Option Nat} {mX35_safe : Nat → Option Nat} {mX35_circle : Nat → Int32} {mX35_known : Nat → Int32} {mX35_holds : Nat → Option Nat} {mX35_rounds : Nat → Option Nat} {mX35_counts : Nat → Option Nat} {mX35_roundCount : Nat → Int32} {mX35_last : Nat → Option Nat} {mX35_next : Nat → Option Nat} {mX35_values : Nat → Option Nat} {mX35_coming : Nat → Option Nat} {mX35_counting : Nat → Option Nat} {mX35_gathering : Nat → Option Nat} {mX35_together : Nat → Option Nat} {mX35_held : Nat → Option Nat} {mX35_work : Nat → Int64} {mX35_large : Nat → Int32} {mX83_head : Nat → Option Nat} {mX83_parts : Nat → Option Nat} {mX83_kind : Nat → Int32} {mX83_variable : Nat → Int32} {mX84_sort : Nat → Int32} {mX84_name : Nat → Int32} {mX84_x : Nat → Int32} {mX84_y : Nat → Int32} {mJ1_modCount : Nat → Int32} {mJ2_elementData : Nat → Option Nat} {mJ2_size : Nat → Int32} {mJ4_words : Nat → Option Nat} {mJ4_wordsInUse : Nat → Int32} {mJ4_sizeIsSticky : Nat → Int32} {a : Nat} (hk : kd a = 10) : (cRE ci d kd an ai al ar mX35_said mX35_rules mX35_strata mX35_needs mX35_safe mX35_circle mX35_known mX35_holds mX35_rounds mX35_counts mX35_roundCount mX35_last mX35_next mX35_values mX35_coming mX35_counting mX35_gathering mX35_together mX35_held mX35_work mX35_large mX83_head mX83_parts mX83_kind mX83_variable mX84_sort mX84_name mX84_x mX84_y mJ1_modCount mJ2_elementData mJ2_size mJ4_words mJ4_wordsInUse mJ4_sizeIsSticky) a = .inl (d 1, an a, .inl (ai a)) := by unfold cRE; simp only [hk]
theorem cRE_10_s {ci : Nat → Nat} {d : Nat → ClassId} {kd : Nat → Nat} {an : Nat → Nat} {ai : Nat → Nat → Int32} {al : Nat → Nat → Int64} {ar : Nat → Nat → Option Nat} {mX35_said : Nat → Option Nat} {mX35_rules : Nat → Option Nat} {mX35_strata : Nat → Option Nat} {mX35_needs : Nat → Option Nat} {mX35_safe : Nat → Option Nat} {mX35_circle : Nat → Int32} {mX35_known : Nat → Int32} {mX35_holds : Nat → Option Nat} {mX35_rounds : Nat → Option Nat} {mX35_counts : Nat → Option Nat} {mX35_roundCount : Nat → Int32} {mX35_last : Nat → Option Nat} {mX35_next : Nat → Option Nat} {mX35_values : Nat → Option Nat} {mX35_coming : Nat → Option Nat} {mX35_counting : Nat → Option Nat} {mX35_gathering : Nat → Option Nat} {mX35_together : Nat → Option Nat} {mX35_held : Nat → Option Nat} {mX35_work : Nat → Int64} {mX35_large : Nat → Int32} {mX83_head : Nat → Option Nat} {mX83_parts : Nat → Option Nat} {mX83_kind : Nat → Int32} {mX83_variable : Nat → Int32} {mX84_sort : Nat → Int32} {mX84_name : Nat → Int32} {mX84_x : Nat → Int32} {mX84_y : Nat → Int32} {mJ1_modCount : Nat → Int32} {mJ2_elementData : Nat → Option Nat} {mJ2_size : Nat → Int32} {mJ4_words : Nat → Option Nat} {mJ4_wordsInUse : Nat → Int32} {mJ4_sizeIsSticky : Nat → Int32} {a : Nat} {g : Nat → Int32} (hk : kd a = 10) : va_up (cRE ci d kd an ai al ar mX35_said mX35_rules mX35_strata mX35_needs mX35_safe mX35_circle mX35_known mX35_holds mX35_rounds mX35_counts mX35_roundCount mX35_last mX35_next mX35_values mX35_coming mX35_counting mX35_gathering mX35_together mX35_held mX35_work mX35_large mX83_head mX83_parts mX83_kind mX83_variable mX84_sort mX84_name mX84_x mX84_y mJ1_modCount mJ2_elementData mJ2_size mJ4_words mJ4_wordsInUse mJ4_sizeIsSticky) a (.inl (d 1, an a, .inl g)) = (cRE ci d kd an (va_up ai a g) al ar mX35_said mX35_rules mX35_strata mX35_needs mX35_safe mX35_circle mX35_known mX35_holds mX35_rounds mX35_counts mX35_roundCount mX35_last mX35_next mX35_values mX35_coming mX35_counting mX35_gathering mX35_together mX35_held mX35_work mX35_large mX83_head mX83_parts mX83_kind mX83_variable mX84_sort mX84_name mX84_x mX84_y mJ1_modCount mJ2_elementData mJ2_size mJ4_words mJ4_wordsInUse mJ4_sizeIsSticky) := by
  funext b
  by_cases h : b = a
  · subst h
    rw [va_up_self]
    unfold cRE
    rw [hk]
    simp only [va_up_self]
  · rw [va_up_ne _ _ h]
    unfold cRE
    simp only [va_up_ne _ _ h]
theorem cRE_10_n {ci : Nat → Nat} {d : Nat → ClassId} {kd : Nat → Nat} {an : Nat → Nat} {ai : Nat → Nat → Int32} {al : Nat → Nat → Int64} {ar : Nat → Nat → Option Nat} {mX35_said : Nat → Option Nat} {mX35_rules : Nat → Option Nat} {mX35_strata : Nat → Option Nat} {mX35_needs : Nat → Option Nat} {mX35_safe : Nat → Option Nat} {mX35_circle : Nat → Int32} {mX35_known : Nat → Int32} {mX35_holds : Nat → Option Nat} {mX35_rounds : Nat → Option Nat} {mX35_counts : Nat → Option Nat} {mX35_roundCount : Nat → Int32} {mX35_last : Nat → Option Nat} {mX35_next : Nat → Option Nat} {mX35_values : Nat → Option Nat} {mX35_coming : Nat → Option Nat} {mX35_counting : Nat → Option Nat} {mX35_gathering : Nat → Option Nat} {mX35_together : Nat → Option Nat} {mX35_held : Nat → Option Nat} {mX35_work : Nat → Int64} {mX35_large : Nat → Int32} {mX83_head : Nat → Option Nat} {mX83_parts : Nat → Option Nat} {mX83_kind : Nat → Int32} {mX83_variable : Nat → Int32} {mX84_sort : Nat → Int32} {mX84_name : Nat → Int32} {mX84_x : Nat → Int32} {mX84_y : Nat → Int32} {mJ1_modCount : Nat → Int32} {mJ2_elementData : Nat → Option Nat} {mJ2_size : Nat → Int32} {mJ4_words : Nat → Option Nat} {mJ4_wordsInUse : Nat → Int32} {mJ4_sizeIsSticky : Nat → Int32} (n q : Nat) : va_up (cRE ci d kd an ai al ar mX35_said mX35_rules mX35_strata mX35_needs mX35_safe mX35_circle mX35_known mX35_holds mX35_rounds mX35_counts mX35_roundCount mX35_last mX35_next mX35_values mX35_coming mX35_counting mX35_gathering mX35_together mX35_held mX35_work mX35_large mX83_head mX83_parts mX83_kind mX83_variable mX84_sort mX84_name mX84_x mX84_y mJ1_modCount mJ2_elementData mJ2_size mJ4_words mJ4_wordsInUse mJ4_sizeIsSticky) q (.inl (d 1, n, .inl (fun _ => 0))) = (cRE ci d (va_up kd q 10) (va_up an q n) (va_up ai q (fun _ => 0)) al ar mX35_said mX35_rules mX35_strata mX35_needs mX35_safe mX35_circle mX35_known mX35_holds mX35_rounds mX35_counts mX35_roundCount mX35_last mX35_next mX35_values mX35_coming mX35_counting mX35_gathering mX35_together mX35_held mX35_work mX35_large mX83_head mX83_parts mX83_kind mX83_variable mX84_sort mX84_name mX84_x mX84_y mJ1_modCount mJ2_elementData mJ2_size mJ4_words mJ4_wordsInUse mJ4_sizeIsSticky) := by
  funext b
  by_cases h : b = q
  · subst h
    rw [va_up_self]
    unfold cRE
    simp only [va_up_self]
  · rw [va_up_ne _ _ h]
    unfold cRE
    simp only [va_up_ne _ _ h]
theorem cRE_11 {ci : Nat → Nat} {d : Nat → ClassId} {kd : Nat → Nat} {an : Nat → Nat} {ai : Nat → Nat → Int32} {al : Nat → Nat → Int64} {ar : Nat → Nat → Option Nat} {mX35_said : Nat → Option Nat} {mX35_rules : Nat → Option Nat} {mX35_strata : Nat → Option Nat} {mX35_needs : Nat → Option Nat} {mX35_safe : Nat → Option Nat} {mX35_circle : Nat → Int32} {mX35_known : Nat → Int32} {mX35_holds : Nat → Option Nat} {mX35_rounds : Nat → Option Nat} {mX35_counts : Nat → Option Nat} {mX35_roundCount : Nat → Int32} {mX35_last : Nat → Option Nat} {mX35_next : Nat → Option Nat} {mX35_values : Nat → Option Nat} {mX35_coming : Nat → Option Nat} {mX35_counting : Nat → Option Nat} {mX35_gathering : Nat → Option Nat} {mX35_together : Nat → Option Nat} {mX35_held : Nat → Option Nat} {mX35_work : Nat → Int64} {mX35_large : Nat → Int32} {mX83_head : Nat → Option Nat} {mX83_parts : Nat → Option Nat} {mX83_kind : Nat → Int32} {mX83_variable : Nat → Int32} {mX84_sort : Nat → Int32} {mX84_name : Nat → Int32} {mX84_x : Nat → Int32} {mX84_y : Nat → Int32} {mJ1_modCount : Nat → Int32} {mJ2_elementData : Nat → Option Nat} {mJ2_size : Nat → Int32} {mJ4_words : Nat → Option Nat} {mJ4_wordsInUse : Nat → Int32} {mJ4_sizeIsSticky : Nat → Int32} {a : Nat} (hk : kd a = 11) : (cRE ci d kd an ai al ar mX35_said mX35_rules mX35_strata mX35_needs mX35_safe mX35_circle mX35_known mX35_holds mX35_rounds mX35_counts mX35_roundCount mX35_last mX35_next mX35_values mX35_coming mX35_counting mX35_gathering mX35_together mX35_held mX35_work mX35_large mX83_head mX83_parts mX83_kind mX83_variable mX84_sort mX84_name mX84_x mX84_y mJ1_modCount mJ2_elementData mJ2_size mJ4_words mJ4_wordsInUse mJ4_sizeIsSticky) a = .inl (d 2, an a, .inr (.inl (al a))) := by unfold cRE; simp only [hk]
theorem cRE_11_s {ci : Nat → Nat} {d : Nat → ClassId} {kd : Nat → Nat} {an : Nat → Nat} {ai : Nat → Nat → Int32} {al : Nat → Nat → Int64} {ar : Nat → Nat → Option Nat} {mX35_said : Nat → Option Nat} {mX35_rules : Nat → Option Nat} {mX35_strata : Nat → Option Nat} {mX35_needs : Nat → Option Nat} {mX35_safe : Nat → Option Nat} {mX35_circle : Nat → Int32} {mX35_known : Nat → Int32} {mX35_holds : Nat → Option Nat} {mX35_rounds : Nat → Option Nat} {mX35_counts : Nat → Option Nat} {mX35_roundCount : Nat → Int32} {mX35_last : Nat → Option Nat} {mX35_next : Nat → Option Nat} {mX35_values : Nat → Option Nat} {mX35_coming : Nat → Option Nat} {mX35_counting : Nat → Option Nat} {mX35_gathering : Nat → Option Nat} {mX35_together : Nat → Option Nat} {mX35_held : Nat → Option Nat} {mX35_work : Nat → Int64} {mX35_large : Nat → Int32} {mX83_head : Nat → Option Nat} {mX83_parts : Nat → Option Nat} {mX83_kind : Nat → Int32} {mX83_variable : Nat → Int32} {mX84_sort : Nat → Int32} {mX84_name : Nat → Int32} {mX84_x : Nat → Int32} {mX84_y : Nat → Int32} {mJ1_modCount : Nat → Int32} {mJ2_elementData : Nat → Option Nat} {mJ2_size : Nat → Int32} {mJ4_words : Nat → Option Nat} {mJ4_wordsInUse : Nat → Int32} {mJ4_sizeIsSticky : Nat → Int32} {a : Nat} {g : Nat → Int64} (hk : kd a = 11) : va_up (cRE ci d kd an ai al ar mX35_said mX35_rules mX35_strata mX35_needs mX35_safe mX35_circle mX35_known mX35_holds mX35_rounds mX35_counts mX35_roundCount mX35_last mX35_next mX35_values mX35_coming mX35_counting mX35_gathering mX35_together mX35_held mX35_work mX35_large mX83_head mX83_parts mX83_kind mX83_variable mX84_sort mX84_name mX84_x mX84_y mJ1_modCount mJ2_elementData mJ2_size mJ4_words mJ4_wordsInUse mJ4_sizeIsSticky) a (.inl (d 2, an a, .inr (.inl g))) = (cRE ci d kd an ai (va_up al a g) ar mX35_said mX35_rules mX35_strata mX35_needs mX35_safe mX35_circle mX35_known mX35_holds mX35_rounds mX35_counts mX35_roundCount mX35_last mX35_next mX35_values mX35_coming mX35_counting mX35_gathering mX35_together mX35_held mX35_work mX35_large mX83_head mX83_parts mX83_kind mX83_variable mX84_sort mX84_name mX84_x mX84_y mJ1_modCount mJ2_elementData mJ2_size mJ4_words mJ4_wordsInUse mJ4_sizeIsSticky) := by
  funext b
  by_cases h : b = a
  · subst h
    rw [va_up_self]
    unfold cRE
    rw [hk]
    simp only [va_up_self]
  · rw [va_up_ne _ _ h]
    unfold cRE
    simp only [va_up_ne _ _ h]
theorem cRE_11_n {ci : Nat → Nat} {d : Nat → ClassId} {kd : Nat → Nat} {an : Nat → Nat} {ai : Nat → Nat → Int32} {al : Nat → Nat → Int64} {ar : Nat → Nat → Option Nat} {mX35_said : Nat → Option Nat} {mX35_rules : Nat → Option Nat} {mX35_strata : Nat → Option Nat} {mX35_needs : Nat → Option Nat} {mX35_safe : Nat → Option Nat} {mX35_circle : Nat → Int32} {mX35_known : Nat → Int32} {mX35_holds : Nat → Option Nat} {mX35_rounds : Nat → Option Nat} {mX35_counts : Nat → Option Nat} {mX35_roundCount : Nat → Int32} {mX35_last : Nat → Option Nat} {mX35_next : Nat → Option Nat} {mX35_values : Nat → Option Nat} {mX35_coming : Nat → Option Nat} {mX35_counting : Nat → Option Nat} {mX35_gathering : Nat → Option Nat} {mX35_together : Nat → Option Nat} {mX35_held : Nat → Option Nat} {mX35_work : Nat → Int64} {mX35_large : Nat → Int32} {mX83_head : Nat → Option Nat} {mX83_parts : Nat → Option Nat} {mX83_kind : Nat → Int32} {mX83_variable : Nat → Int32} {mX84_sort : Nat → Int32} {mX84_name : Nat → Int32} {mX84_x : Nat → Int32} {mX84_y : Nat → Int32} {mJ1_modCount : Nat → Int32} {mJ2_elementData : Nat → Option Nat} {mJ2_size : Nat → Int32} {mJ4_words : Nat → Option Nat} {mJ4_wordsInUse : Nat → Int32} {mJ4_sizeIsSticky : Nat → Int32} (n q : Nat) : va_up (cRE ci d kd an ai al ar mX35_said mX35_rules mX35_strata mX35_needs mX35_safe mX35_circle mX35_known mX35_holds mX35_rounds mX35_counts mX35_roundCount mX35_last mX35_next mX35_values mX35_coming mX35_counting mX35_gathering mX35_together mX35_held mX35_work mX35_large mX83_head mX83_parts mX83_kind mX83_variable mX84_sort mX84_name mX84_x mX84_y mJ1_modCount mJ2_elementData mJ2_size mJ4_words mJ4_wordsInUse mJ4_sizeIsSticky) q (.inl (d 2, n, .inr (.inl (fun _ => 0)))) = (cRE ci d (va_up kd q 11) (va_up an q n) ai (va_up al q (fun _ => 0)) ar mX35_said mX35_rules mX35_strata mX35_needs mX35_safe mX35_circle mX35_known mX35_holds mX35_rounds mX35_counts mX35_roundCount mX35_last mX35_next mX35_values mX35_coming mX35_counting mX35_gathering mX35_together mX35_held mX35_work mX35_large mX83_head mX83_parts mX83_kind mX83_variable mX84_sort mX84_name mX84_x mX84_y mJ1_modCount mJ2_elementData mJ2_size mJ4_words mJ4_wordsInUse mJ4_sizeIsSticky) := by
  funext b
  by_cases h : b = q
  · subst h
    rw [va_up_self]
    unfold cRE
    simp only [va_up_self]
  · rw [va_up_ne _ _ h]
    unfold cRE
    simp only [va_up_ne _ _ h]
theorem cRE_12 {ci : Nat → Nat} {d : Nat → ClassId} {kd : Nat → Nat} {an : Nat → Nat} {ai : Nat → Nat → Int32} {al : Nat → Nat → Int64} {ar : Nat → Nat → Option Nat} {mX35_said : Nat → Option Nat} {mX35_rules : Nat → Option Nat} {mX35_strata : Nat → Option Nat} {mX35_needs : Nat → Option Nat} {mX35_safe : Nat → Option Nat} {mX35_circle : Nat → Int32} {mX35_known : Nat → Int32} {mX35_holds : Nat → Option Nat} {mX35_rounds : Nat → Option Nat} {mX35_counts : Nat → Option Nat} {mX35_roundCount : Nat → Int32} {mX35_last : Nat → Option Nat} {mX35_next : Nat → Option Nat} {mX35_values : Nat → Option Nat} {mX35_coming : Nat → Option Nat} {mX35_counting : Nat → Option Nat} {mX35_gathering : Nat → Option Nat} {mX35_together : Nat → Option Nat} {mX35_held : Nat → Option Nat} {mX35_work : Nat → Int64} {mX35_large : Nat → Int32} {mX83_head : Nat → Option Nat} {mX83_parts : Nat → Option Nat} {mX83_kind : Nat → Int32} {mX83_variable : Nat → Int32} {mX84_sort : Nat → Int32} {mX84_name : Nat → Int32} {mX84_x : Nat → Int32} {mX84_y : Nat → Int32} {mJ1_modCount : Nat → Int32} {mJ2_elementData : Nat → Option Nat} {mJ2_size : Nat → Int32} {mJ4_words : Nat → Option Nat} {mJ4_wordsInUse : Nat → Int32} {mJ4_sizeIsSticky : Nat → Int32} {a : Nat} (hk : kd a = 12) : (cRE ci d kd an ai al ar mX35_said mX35_rules mX35_strata mX35_needs mX35_safe mX35_circle mX35_known mX35_holds mX35_rounds mX35_counts mX35_roundCount mX35_last mX35_next mX35_values mX35_coming mX35_counting mX35_gathering mX35_together mX35_held mX35_work mX35_large mX83_head mX83_parts mX83_kind mX83_variable mX84_sort mX84_name mX84_x mX84_y mJ1_modCount mJ2_elementData mJ2_size mJ4_words mJ4_wordsInUse mJ4_sizeIsSticky) a = .inl (d 3, an a, .inr (.inr (.inr (.inr (ar a))))) := by unfold cRE; simp only [hk]
theorem cRE_12_s {ci : Nat → Nat} {d : Nat → ClassId} {kd : Nat → Nat} {an : Nat → Nat} {ai : Nat → Nat → Int32} {al : Nat → Nat → Int64} {ar : Nat → Nat → Option Nat} {mX35_said : Nat → Option Nat} {mX35_rules : Nat → Option Nat} {mX35_strata : Nat → Option Nat} {mX35_needs : Nat → Option Nat} {mX35_safe : Nat → Option Nat} {mX35_circle : Nat → Int32} {mX35_known : Nat → Int32} {mX35_holds : Nat → Option Nat} {mX35_rounds : Nat → Option Nat} {mX35_counts : Nat → Option Nat} {mX35_roundCount : Nat → Int32} {mX35_last : Nat → Option Nat} {mX35_next : Nat → Option Nat} {mX35_values : Nat → Option Nat} {mX35_coming : Nat → Option Nat} {mX35_counting : Nat → Option Nat} {mX35_gathering : Nat → Option Nat} {mX35_together : Nat → Option Nat} {mX35_held : Nat → Option Nat} {mX35_work : Nat → Int64} {mX35_large : Nat → Int32} {mX83_head : Nat → Option Nat} {mX83_parts : Nat → Option Nat} {mX83_kind : Nat → Int32} {mX83_variable : Nat → Int32} {mX84_sort : Nat → Int32} {mX84_name : Nat → Int32} {mX84_x : Nat → Int32} {mX84_y : Nat → Int32} {mJ1_modCount : Nat → Int32} {mJ2_elementData : Nat → Option Nat} {mJ2_size : Nat → Int32} {mJ4_words : Nat → Option Nat} {mJ4_wordsInUse : Nat → Int32} {mJ4_sizeIsSticky : Nat → Int32} {a : Nat} {g : Nat → Option Nat} (hk : kd a = 12) : va_up (cRE ci d kd an ai al ar mX35_said mX35_rules mX35_strata mX35_needs mX35_safe mX35_circle mX35_known mX35_holds mX35_rounds mX35_counts mX35_roundCount mX35_last mX35_next mX35_values mX35_coming mX35_counting mX35_gathering mX35_together mX35_held mX35_work mX35_large mX83_head mX83_parts mX83_kind mX83_variable mX84_sort mX84_name mX84_x mX84_y mJ1_modCount mJ2_elementData mJ2_size mJ4_words mJ4_wordsInUse mJ4_sizeIsSticky) a (.inl (d 3, an a, .inr (.inr (.inr (.inr g))))) = (cRE ci d kd an ai al (va_up ar a g) mX35_said mX35_rules mX35_strata mX35_needs mX35_safe mX35_circle mX35_known mX35_holds mX35_rounds mX35_counts mX35_roundCount mX35_last mX35_next mX35_values mX35_coming mX35_counting mX35_gathering mX35_together mX35_held mX35_work mX35_large mX83_head mX83_parts mX83_kind mX83_variable mX84_sort mX84_name mX84_x mX84_y mJ1_modCount mJ2_elementData mJ2_size mJ4_words mJ4_wordsInUse mJ4_sizeIsSticky) := by
  funext b
  by_cases h : b = a
  · subst h
    rw [va_up_self]
    unfold cRE
    rw [hk]
    simp only [va_up_self]
  · rw [va_up_ne _ _ h]
    unfold cRE
    simp only [va_up_ne _ _ h]
theorem cRE_12_n {ci : Nat → Nat} {d : Nat → ClassId} {kd : Nat → Nat} {an : Nat → Nat} {ai : Nat → Nat → Int32} {al : Nat → Nat → Int64} {ar : Nat → Nat → Option Nat} {mX35_said : Nat → Option Nat} {mX35_rules : Nat → Option Nat} {mX35_strata : Nat → Option Nat} {mX35_needs : Nat → Option Nat} {mX35_safe : Nat → Option Nat} {mX35_circle : Nat → Int32} {mX35_known : Nat → Int32} {mX35_holds : Nat → Option Nat} {mX35_rounds : Nat → Option Nat} {mX35_counts : Nat → Option Nat} {mX35_roundCount : Nat → Int32} {mX35_last : Nat → Option Nat} {mX35_next : Nat → Option Nat} {mX35_values : Nat → Option Nat} {mX35_coming : Nat → Option Nat} {mX35_counting : Nat → Option Nat} {mX35_gathering : Nat → Option Nat} {mX35_together : Nat → Option Nat} {mX35_held : Nat → Option Nat} {mX35_work : Nat → Int64} {mX35_large : Nat → Int32} {mX83_head : Nat → Option Nat} {mX83_parts : Nat → Option Nat} {mX83_kind : Nat → Int32} {mX83_variable : Nat → Int32} {mX84_sort : Nat → Int32} {mX84_name : Nat → Int32} {mX84_x : Nat → Int32} {mX84_y : Nat → Int32} {mJ1_modCount : Nat → Int32} {mJ2_elementData : Nat → Option Nat} {mJ2_size : Nat → Int32} {mJ4_words : Nat → Option Nat} {mJ4_wordsInUse : Nat → Int32} {mJ4_sizeIsSticky : Nat → Int32} (n q : Nat) : va_up (cRE ci d kd an ai al ar mX35_said mX35_rules mX35_strata mX35_needs mX35_safe mX35_circle mX35_known mX35_holds mX35_rounds mX35_counts mX35_roundCount mX35_last mX35_next mX35_values mX35_coming mX35_counting mX35_gathering mX35_together mX35_held mX35_work mX35_large mX83_head mX83_parts mX83_kind mX83_variable mX84_sort mX84_name mX84_x mX84_y mJ1_modCount mJ2_elementData mJ2_size mJ4_words mJ4_wordsInUse mJ4_sizeIsSticky) q (.inl (d 3, n, .inr (.inr (.inr (.inr (fun _ => none)))))) = (cRE ci d (va_up kd q 12) (va_up an q n) ai al (va_up ar q (fun _ => none)) mX35_said mX35_rules mX35_strata mX35_needs mX35_safe mX35_circle mX35_known mX35_holds mX35_rounds mX35_counts mX35_roundCount mX35_last mX35_next mX35_values mX35_coming mX35_counting mX35_gathering mX35_together mX35_held mX35_work mX35_large mX83_head mX83_parts mX83_kind mX83_variable mX84_sort mX84_name mX84_x mX84_y mJ1_modCount mJ2_elementData mJ2_size mJ4_words mJ4_wordsInUse mJ4_sizeIsSticky) := by
  funext b
  by_cases h : b = q
  · subst h
    rw [va_up_self]
    unfold cRE
    simp only [va_up_self]
  · rw [va_up_ne _ _ h]
    unfold cRE
    simp only [va_up_ne _ _ h]
