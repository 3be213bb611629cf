/-! KnowHouseModel$QlRewriteModel (printed by tools/zgen.py) -/
set_option maxRecDepth 100000
def RX56 : String := "KnowHouseModel$QlRewriteModel"
def TX56 : u_T := fun k => match k with
  | 0 => ("KnowHouseModel$QlRewriteModel", "kinds", "[I", true)
  | 1 => ("KnowHouseModel$QlRewriteModel", "lefts", "[I", true)
  | 2 => ("KnowHouseModel$QlRewriteModel", "rights", "[I", true)
  | 3 => ("KnowHouseModel$QlRewriteModel", "axioms", "I", false)
  | 4 => ("KnowHouseModel$QlRewriteModel", "factNames", "[I", true)
  | 5 => ("KnowHouseModel$QlRewriteModel", "factAs", "[I", true)
  | 6 => ("KnowHouseModel$QlRewriteModel", "factBs", "[I", true)
  | 7 => ("KnowHouseModel$QlRewriteModel", "facts", "I", false)
  | 8 => ("KnowHouseModel$QlRewriteModel", "answers", "[I", true)
  | 9 => ("KnowHouseModel$QlRewriteModel", "sizes", "[I", true)
  | 10 => ("KnowHouseModel$QlRewriteModel", "names", "[I", true)
  | 11 => ("KnowHouseModel$QlRewriteModel", "froms", "[I", true)
  | 12 => ("KnowHouseModel$QlRewriteModel", "tos", "[I", true)
  | 13 => ("KnowHouseModel$QlRewriteModel", "questions", "I", false)
  | 14 => ("KnowHouseModel$QlRewriteModel", "first", "I", false)
  | 15 => ("KnowHouseModel$QlRewriteModel", "second", "I", false)
  | 16 => ("KnowHouseModel$QlRewriteModel", "name", "[I", true)
  | 17 => ("KnowHouseModel$QlRewriteModel", "from", "[I", true)
  | 18 => ("KnowHouseModel$QlRewriteModel", "to", "[I", true)
  | 19 => ("KnowHouseModel$QlRewriteModel", "n", "I", false)
  | 20 => ("KnowHouseModel$QlRewriteModel", "codes", "[I", true)
  | 21 => ("KnowHouseModel$QlRewriteModel", "least", "[I", true)
  | 22 => ("KnowHouseModel$QlRewriteModel", "others", "[I", true)
  | 23 => ("KnowHouseModel$QlRewriteModel", "otherCount", "I", false)
  | 24 => ("KnowHouseModel$QlRewriteModel", "formSizes", "[I", true)
  | 25 => ("KnowHouseModel$QlRewriteModel", "formFirsts", "[I", true)
  | 26 => ("KnowHouseModel$QlRewriteModel", "formSeconds", "[I", true)
  | 27 => ("KnowHouseModel$QlRewriteModel", "formCodes", "[I", true)
  | 28 => ("KnowHouseModel$QlRewriteModel", "forms", "I", false)
  | 29 => ("KnowHouseModel$QlRewriteModel", "large", "Z", false)
  | 30 => ("KnowHouseModel$QlRewriteModel", "looked", "I", false)
  | 31 => ("KnowHouseModel$QlRewriteModel", "firstOf", "[I", true)
  | 32 => ("KnowHouseModel$QlRewriteModel", "isFound", "Z", false)
  | 33 => ("KnowHouseModel$QlRewriteModel", "things", "[I", true)
  | 34 => ("KnowHouseModel$QlRewriteModel", "rows", "[I", true)
  | 35 => ("KnowHouseModel$QlRewriteModel", "savedA", "[I", true)
  | _ => ("KnowHouseModel$QlRewriteModel", "savedB", "[I", true)
def tyX56 : Nat → FieldType := fun k => match k with
  | 0 => .array .int
  | 1 => .array .int
  | 2 => .array .int
  | 3 => .int
  | 4 => .array .int
  | 5 => .array .int
  | 6 => .array .int
  | 7 => .int
  | 8 => .array .int
  | 9 => .array .int
  | 10 => .array .int
  | 11 => .array .int
  | 12 => .array .int
  | 13 => .int
  | 14 => .int
  | 15 => .int
  | 16 => .array .int
  | 17 => .array .int
  | 18 => .array .int
  | 19 => .int
  | 20 => .array .int
  | 21 => .array .int
  | 22 => .array .int
  | 23 => .int
  | 24 => .array .int
  | 25 => .array .int
  | 26 => .array .int
  | 27 => .array .int
  | 28 => .int
  | 29 => .boolean
  | 30 => .int
  | 31 => .array .int
  | 32 => .boolean
  | 33 => .array .int
  | 34 => .array .int
  | 35 => .array .int
  | _ => .array .int
abbrev wsX560 : List Cond := u_ws RX56 TX56 37
theorem nmX56 : ∀ a, a < 37 → ∀ b, b < 37 → a ≠ b → (TX56 a).2.1 ≠ (TX56 b).2.1 := by decide +kernel
theorem tyX56_ok : ∀ k, k < 37 → parseFieldDescriptor (TX56 k).2.2.1 = some (tyX56 k) := by decide +kernel
abbrev cX56_init : ByteArray := prog_86_method_1_code
def yX56_init : MethodName := ⟨RX56, "<init>", "()V"⟩
abbrev cX56_axiom : ByteArray := prog_86_method_5_code
def yX56_axiom : MethodName := ⟨RX56, "axiom", "(III)I"⟩
theorem dX56_axiom_0 : decode cX56_axiom 0 = .ok (.iload_n 1, 1) := by decide +kernel
theorem dX56_axiom_1 : decode cX56_axiom 1 = .ok (.iconst 4, 1) := by decide +kernel
theorem dX56_axiom_2 : decode cX56_axiom 2 = .ok (.invokestatic 92, 3) := by decide +kernel
theorem dX56_axiom_5 : decode cX56_axiom 5 = .ok (.ifCond .ne 5, 3) := by decide +kernel
theorem dX56_axiom_8 : decode cX56_axiom 8 = .ok (.iconst (-1), 1) := by decide +kernel
theorem dX56_axiom_9 : decode cX56_axiom 9 = .ok (.ireturn, 1) := by decide +kernel
theorem dX56_axiom_10 : decode cX56_axiom 10 = .ok (.iload_n 1, 1) := by decide +kernel
theorem dX56_axiom_11 : decode cX56_axiom 11 = .ok (.ifCond .eq 8, 3) := by decide +kernel
theorem dX56_axiom_14 : decode cX56_axiom 14 = .ok (.iload_n 1, 1) := by decide +kernel
theorem dX56_axiom_15 : decode cX56_axiom 15 = .ok (.iconst 2, 1) := by decide +kernel
theorem dX56_axiom_16 : decode cX56_axiom 16 = .ok (.if_icmp .ne 7, 3) := by decide +kernel
theorem dX56_axiom_19 : decode cX56_axiom 19 = .ok (.iconst 1, 1) := by decide +kernel
theorem dX56_axiom_20 : decode cX56_axiom 20 = .ok (.goto 4, 3) := by decide +kernel
theorem dX56_axiom_23 : decode cX56_axiom 23 = .ok (.iconst 0, 1) := by decide +kernel
theorem dX56_axiom_24 : decode cX56_axiom 24 = .ok (.istore 4, 2) := by decide +kernel
theorem dX56_axiom_26 : decode cX56_axiom 26 = .ok (.iload 4, 2) := by decide +kernel
theorem dX56_axiom_28 : decode cX56_axiom 28 = .ok (.ifCond .eq 17, 3) := by decide +kernel
theorem dX56_axiom_31 : decode cX56_axiom 31 = .ok (.iload_n 2, 1) := by decide +kernel
theorem dX56_axiom_32 : decode cX56_axiom 32 = .ok (.invokestatic 96, 3) := by decide +kernel
theorem dX56_axiom_35 : decode cX56_axiom 35 = .ok (.ifCond .eq 33, 3) := by decide +kernel
theorem dX56_axiom_38 : decode cX56_axiom 38 = .ok (.iload_n 3, 1) := by decide +kernel
theorem dX56_axiom_39 : decode cX56_axiom 39 = .ok (.invokestatic 96, 3) := by decide +kernel
theorem dX56_axiom_42 : decode cX56_axiom 42 = .ok (.ifCond .eq 26, 3) := by decide +kernel
theorem dX56_axiom_45 : decode cX56_axiom 45 = .ok (.iload 4, 2) := by decide +kernel
theorem dX56_axiom_47 : decode cX56_axiom 47 = .ok (.ifCond .ne 23, 3) := by decide +kernel
theorem dX56_axiom_50 : decode cX56_axiom 50 = .ok (.iload_n 2, 1) := by decide +kernel
theorem dX56_axiom_51 : decode cX56_axiom 51 = .ok (.bipush 16, 2) := by decide +kernel
theorem dX56_axiom_53 : decode cX56_axiom 53 = .ok (.invokestatic 92, 3) := by decide +kernel
theorem dX56_axiom_56 : decode cX56_axiom 56 = .ok (.ifCond .eq 12, 3) := by decide +kernel
theorem dX56_axiom_59 : decode cX56_axiom 59 = .ok (.iload_n 3, 1) := by decide +kernel
theorem dX56_axiom_60 : decode cX56_axiom 60 = .ok (.bipush 16, 2) := by decide +kernel
theorem dX56_axiom_62 : decode cX56_axiom 62 = .ok (.invokestatic 92, 3) := by decide +kernel
theorem dX56_axiom_65 : decode cX56_axiom 65 = .ok (.ifCond .ne 5, 3) := by decide +kernel
theorem dX56_axiom_68 : decode cX56_axiom 68 = .ok (.iconst (-1), 1) := by decide +kernel
theorem dX56_axiom_69 : decode cX56_axiom 69 = .ok (.ireturn, 1) := by decide +kernel
theorem dX56_axiom_70 : decode cX56_axiom 70 = .ok (.aload_n 0, 1) := by decide +kernel
theorem dX56_axiom_71 : decode cX56_axiom 71 = .ok (.getfield 100, 3) := by decide +kernel
theorem dX56_axiom_74 : decode cX56_axiom 74 = .ok (.bipush 16, 2) := by decide +kernel
theorem dX56_axiom_76 : decode cX56_axiom 76 = .ok (.if_icmp .ne 6, 3) := by decide +kernel
theorem dX56_axiom_79 : decode cX56_axiom 79 = .ok (.bipush (-2), 2) := by decide +kernel
theorem dX56_axiom_81 : decode cX56_axiom 81 = .ok (.ireturn, 1) := by decide +kernel
theorem dX56_axiom_82 : decode cX56_axiom 82 = .ok (.aload_n 0, 1) := by decide +kernel
theorem dX56_axiom_83 : decode cX56_axiom 83 = .ok (.getfield 7, 3) := by decide +kernel
theorem dX56_axiom_86 : decode cX56_axiom 86 = .ok (.aload_n 0, 1) := by decide +kernel
theorem dX56_axiom_87 : decode cX56_axiom 87 = .ok (.getfield 100, 3) := by decide +kernel
theorem dX56_axiom_90 : decode cX56_axiom 90 = .ok (.iload_n 1, 1) := by decide +kernel
theorem dX56_axiom_91 : decode cX56_axiom 91 = .ok (.iastore, 1) := by decide +kernel
theorem dX56_axiom_92 : decode cX56_axiom 92 = .ok (.aload_n 0, 1) := by decide +kernel
theorem dX56_axiom_93 : decode cX56_axiom 93 = .ok (.getfield 13, 3) := by decide +kernel
theorem dX56_axiom_96 : decode cX56_axiom 96 = .ok (.aload_n 0, 1) := by decide +kernel
theorem dX56_axiom_97 : decode cX56_axiom 97 = .ok (.getfield 100, 3) := by decide +kernel
theorem dX56_axiom_100 : decode cX56_axiom 100 = .ok (.iload_n 2, 1) := by decide +kernel
theorem dX56_axiom_101 : decode cX56_axiom 101 = .ok (.iastore, 1) := by decide +kernel
theorem dX56_axiom_102 : decode cX56_axiom 102 = .ok (.aload_n 0, 1) := by decide +kernel
theorem dX56_axiom_103 : decode cX56_axiom 103 = .ok (.getfield 16, 3) := by decide +kernel
theorem dX56_axiom_106 : decode cX56_axiom 106 = .ok (.aload_n 0, 1) := by decide +kernel
theorem dX56_axiom_107 : decode cX56_axiom 107 = .ok (.getfield 100, 3) := by decide +kernel
theorem dX56_axiom_110 : decode cX56_axiom 110 = .ok (.iload_n 3, 1) := by decide +kernel
theorem dX56_axiom_111 : decode cX56_axiom 111 = .ok (.iastore, 1) := by decide +kernel
theorem dX56_axiom_112 : decode cX56_axiom 112 = .ok (.aload_n 0, 1) := by decide +kernel
theorem dX56_axiom_113 : decode cX56_axiom 113 = .ok (.dup, 1) := by decide +kernel
theorem dX56_axiom_114 : decode cX56_axiom 114 = .ok (.getfield 100, 3) := by decide +kernel
theorem dX56_axiom_117 : decode cX56_axiom 117 = .ok (.iconst 1, 1) := by decide +kernel
theorem dX56_axiom_118 : decode cX56_axiom 118 = .ok (.iadd, 1) := by decide +kernel
theorem dX56_axiom_119 : decode cX56_axiom 119 = .ok (.putfield 100, 3) := by decide +kernel
theorem dX56_axiom_122 : decode cX56_axiom 122 = .ok (.aload_n 0, 1) := by decide +kernel
theorem dX56_axiom_123 : decode cX56_axiom 123 = .ok (.invokevirtual 103, 3) := by decide +kernel
theorem dX56_axiom_126 : decode cX56_axiom 126 = .ok (.aload_n 0, 1) := by decide +kernel
theorem dX56_axiom_127 : decode cX56_axiom 127 = .ok (.getfield 100, 3) := by decide +kernel
theorem dX56_axiom_130 : decode cX56_axiom 130 = .ok (.iconst 1, 1) := by decide +kernel
theorem dX56_axiom_131 : decode cX56_axiom 131 = .ok (.isub, 1) := by decide +kernel
theorem dX56_axiom_132 : decode cX56_axiom 132 = .ok (.ireturn, 1) := by decide +kernel
abbrev cX56_isIn : ByteArray := prog_86_method_2_code
def yX56_isIn : MethodName := ⟨RX56, "isIn", "(II)Z"⟩
theorem dX56_isIn_0 : decode cX56_isIn 0 = .ok (.iload_n 0, 1) := by decide +kernel
theorem dX56_isIn_1 : decode cX56_isIn 1 = .ok (.ifCond .lt 12, 3) := by decide +kernel
theorem dX56_isIn_4 : decode cX56_isIn 4 = .ok (.iload_n 0, 1) := by decide +kernel
theorem dX56_isIn_5 : decode cX56_isIn 5 = .ok (.iload_n 1, 1) := by decide +kernel
theorem dX56_isIn_6 : decode cX56_isIn 6 = .ok (.if_icmp .ge 7, 3) := by decide +kernel
theorem dX56_isIn_9 : decode cX56_isIn 9 = .ok (.iconst 1, 1) := by decide +kernel
theorem dX56_isIn_10 : decode cX56_isIn 10 = .ok (.goto 4, 3) := by decide +kernel
theorem dX56_isIn_13 : decode cX56_isIn 13 = .ok (.iconst 0, 1) := by decide +kernel
theorem dX56_isIn_14 : decode cX56_isIn 14 = .ok (.ireturn, 1) := by decide +kernel
abbrev cX56_isSort : ByteArray := prog_86_method_3_code
def yX56_isSort : MethodName := ⟨RX56, "isSort", "(I)Z"⟩
theorem dX56_isSort_0 : decode cX56_isSort 0 = .ok (.iload_n 0, 1) := by decide +kernel
theorem dX56_isSort_1 : decode cX56_isSort 1 = .ok (.bipush 10, 2) := by decide +kernel
theorem dX56_isSort_3 : decode cX56_isSort 3 = .ok (.invokestatic 92, 3) := by decide +kernel
theorem dX56_isSort_6 : decode cX56_isSort 6 = .ok (.ifCond .ne 15, 3) := by decide +kernel
theorem dX56_isSort_9 : decode cX56_isSort 9 = .ok (.iload_n 0, 1) := by decide +kernel
theorem dX56_isSort_10 : decode cX56_isSort 10 = .ok (.bipush 20, 2) := by decide +kernel
theorem dX56_isSort_12 : decode cX56_isSort 12 = .ok (.if_icmp .lt 13, 3) := by decide +kernel
theorem dX56_isSort_15 : decode cX56_isSort 15 = .ok (.iload_n 0, 1) := by decide +kernel
theorem dX56_isSort_16 : decode cX56_isSort 16 = .ok (.bipush 36, 2) := by decide +kernel
theorem dX56_isSort_18 : decode cX56_isSort 18 = .ok (.if_icmp .ge 7, 3) := by decide +kernel
theorem dX56_isSort_21 : decode cX56_isSort 21 = .ok (.iconst 1, 1) := by decide +kernel
theorem dX56_isSort_22 : decode cX56_isSort 22 = .ok (.goto 4, 3) := by decide +kernel
theorem dX56_isSort_25 : decode cX56_isSort 25 = .ok (.iconst 0, 1) := by decide +kernel
theorem dX56_isSort_26 : decode cX56_isSort 26 = .ok (.ireturn, 1) := by decide +kernel
abbrev cX56_change : ByteArray := prog_86_method_4_code
def yX56_change : MethodName := ⟨RX56, "change", "()V"⟩
theorem dX56_change_0 : decode cX56_change 0 = .ok (.aload_n 0, 1) := by decide +kernel
theorem dX56_change_1 : decode cX56_change 1 = .ok (.iconst (-1), 1) := by decide +kernel
theorem dX56_change_2 : decode cX56_change 2 = .ok (.putfield 73, 3) := by decide +kernel
theorem dX56_change_5 : decode cX56_change 5 = .ok (.return_, 1) := by decide +kernel
abbrev cX56_fact : ByteArray := prog_86_method_8_code
def yX56_fact : MethodName := ⟨RX56, "fact", "(ZIII)I"⟩
theorem dX56_fact_0 : decode cX56_fact 0 = .ok (.iload_n 1, 1) := by decide +kernel
theorem dX56_fact_1 : decode cX56_fact 1 = .ok (.iload_n 2, 1) := by decide +kernel
theorem dX56_fact_2 : decode cX56_fact 2 = .ok (.iload_n 3, 1) := by decide +kernel
theorem dX56_fact_3 : decode cX56_fact 3 = .ok (.iload 4, 2) := by decide +kernel
theorem dX56_fact_5 : decode cX56_fact 5 = .ok (.invokestatic 109, 3) := by decide +kernel
theorem dX56_fact_8 : decode cX56_fact 8 = .ok (.ifCond .ne 5, 3) := by decide +kernel
theorem dX56_fact_11 : decode cX56_fact 11 = .ok (.iconst (-1), 1) := by decide +kernel
theorem dX56_fact_12 : decode cX56_fact 12 = .ok (.ireturn, 1) := by decide +kernel
theorem dX56_fact_13 : decode cX56_fact 13 = .ok (.iload_n 1, 1) := by decide +kernel
theorem dX56_fact_14 : decode cX56_fact 14 = .ok (.ifCond .eq 10, 3) := by decide +kernel
theorem dX56_fact_17 : decode cX56_fact 17 = .ok (.bipush 32, 2) := by decide +kernel
theorem dX56_fact_19 : decode cX56_fact 19 = .ok (.iload_n 2, 1) := by decide +kernel
theorem dX56_fact_20 : decode cX56_fact 20 = .ok (.iadd, 1) := by decide +kernel
theorem dX56_fact_21 : decode cX56_fact 21 = .ok (.goto 4, 3) := by decide +kernel
theorem dX56_fact_24 : decode cX56_fact 24 = .ok (.iload_n 2, 1) := by decide +kernel
theorem dX56_fact_25 : decode cX56_fact 25 = .ok (.istore 5, 2) := by decide +kernel
theorem dX56_fact_27 : decode cX56_fact 27 = .ok (.iload_n 1, 1) := by decide +kernel
theorem dX56_fact_28 : decode cX56_fact 28 = .ok (.ifCond .eq 8, 3) := by decide +kernel
theorem dX56_fact_31 : decode cX56_fact 31 = .ok (.iload 4, 2) := by decide +kernel
theorem dX56_fact_33 : decode cX56_fact 33 = .ok (.goto 4, 3) := by decide +kernel
theorem dX56_fact_36 : decode cX56_fact 36 = .ok (.iconst 0, 1) := by decide +kernel
theorem dX56_fact_37 : decode cX56_fact 37 = .ok (.istore 6, 2) := by decide +kernel
theorem dX56_fact_39 : decode cX56_fact 39 = .ok (.aload_n 0, 1) := by decide +kernel
theorem dX56_fact_40 : decode cX56_fact 40 = .ok (.iload 5, 2) := by decide +kernel
theorem dX56_fact_42 : decode cX56_fact 42 = .ok (.iload_n 3, 1) := by decide +kernel
theorem dX56_fact_43 : decode cX56_fact 43 = .ok (.iload 6, 2) := by decide +kernel
theorem dX56_fact_45 : decode cX56_fact 45 = .ok (.invokevirtual 113, 3) := by decide +kernel
theorem dX56_fact_48 : decode cX56_fact 48 = .ok (.aload_n 0, 1) := by decide +kernel
theorem dX56_fact_49 : decode cX56_fact 49 = .ok (.getfield 106, 3) := by decide +kernel
theorem dX56_fact_52 : decode cX56_fact 52 = .ok (.if_icmp .ge 5, 3) := by decide +kernel
theorem dX56_fact_55 : decode cX56_fact 55 = .ok (.iconst 0, 1) := by decide +kernel
theorem dX56_fact_56 : decode cX56_fact 56 = .ok (.ireturn, 1) := by decide +kernel
theorem dX56_fact_57 : decode cX56_fact 57 = .ok (.aload_n 0, 1) := by decide +kernel
theorem dX56_fact_58 : decode cX56_fact 58 = .ok (.getfield 106, 3) := by decide +kernel
theorem dX56_fact_61 : decode cX56_fact 61 = .ok (.bipush 60, 2) := by decide +kernel
theorem dX56_fact_63 : decode cX56_fact 63 = .ok (.if_icmp .ne 6, 3) := by decide +kernel
theorem dX56_fact_66 : decode cX56_fact 66 = .ok (.bipush (-2), 2) := by decide +kernel
theorem dX56_fact_68 : decode cX56_fact 68 = .ok (.ireturn, 1) := by decide +kernel
theorem dX56_fact_69 : decode cX56_fact 69 = .ok (.aload_n 0, 1) := by decide +kernel
theorem dX56_fact_70 : decode cX56_fact 70 = .ok (.getfield 19, 3) := by decide +kernel
theorem dX56_fact_73 : decode cX56_fact 73 = .ok (.aload_n 0, 1) := by decide +kernel
theorem dX56_fact_74 : decode cX56_fact 74 = .ok (.getfield 106, 3) := by decide +kernel
theorem dX56_fact_77 : decode cX56_fact 77 = .ok (.iload 5, 2) := by decide +kernel
theorem dX56_fact_79 : decode cX56_fact 79 = .ok (.iastore, 1) := by decide +kernel
theorem dX56_fact_80 : decode cX56_fact 80 = .ok (.aload_n 0, 1) := by decide +kernel
theorem dX56_fact_81 : decode cX56_fact 81 = .ok (.getfield 22, 3) := by decide +kernel
theorem dX56_fact_84 : decode cX56_fact 84 = .ok (.aload_n 0, 1) := by decide +kernel
theorem dX56_fact_85 : decode cX56_fact 85 = .ok (.getfield 106, 3) := by decide +kernel
theorem dX56_fact_88 : decode cX56_fact 88 = .ok (.iload_n 3, 1) := by decide +kernel
theorem dX56_fact_89 : decode cX56_fact 89 = .ok (.iastore, 1) := by decide +kernel
theorem dX56_fact_90 : decode cX56_fact 90 = .ok (.aload_n 0, 1) := by decide +kernel
theorem dX56_fact_91 : decode cX56_fact 91 = .ok (.getfield 25, 3) := by decide +kernel
theorem dX56_fact_94 : decode cX56_fact 94 = .ok (.aload_n 0, 1) := by decide +kernel
theorem dX56_fact_95 : decode cX56_fact 95 = .ok (.getfield 106, 3) := by decide +kernel
theorem dX56_fact_98 : decode cX56_fact 98 = .ok (.iload 6, 2) := by decide +kernel
theorem dX56_fact_100 : decode cX56_fact 100 = .ok (.iastore, 1) := by decide +kernel
theorem dX56_fact_101 : decode cX56_fact 101 = .ok (.aload_n 0, 1) := by decide +kernel
theorem dX56_fact_102 : decode cX56_fact 102 = .ok (.dup, 1) := by decide +kernel
theorem dX56_fact_103 : decode cX56_fact 103 = .ok (.getfield 106, 3) := by decide +kernel
theorem dX56_fact_106 : decode cX56_fact 106 = .ok (.iconst 1, 1) := by decide +kernel
theorem dX56_fact_107 : decode cX56_fact 107 = .ok (.iadd, 1) := by decide +kernel
theorem dX56_fact_108 : decode cX56_fact 108 = .ok (.putfield 106, 3) := by decide +kernel
theorem dX56_fact_111 : decode cX56_fact 111 = .ok (.aload_n 0, 1) := by decide +kernel
theorem dX56_fact_112 : decode cX56_fact 112 = .ok (.iconst 0, 1) := by decide +kernel
theorem dX56_fact_113 : decode cX56_fact 113 = .ok (.putfield 117, 3) := by decide +kernel
theorem dX56_fact_116 : decode cX56_fact 116 = .ok (.iconst 1, 1) := by decide +kernel
theorem dX56_fact_117 : decode cX56_fact 117 = .ok (.ireturn, 1) := by decide +kernel
abbrev cX56_isGood : ByteArray := prog_86_method_6_code
def yX56_isGood : MethodName := ⟨RX56, "isGood", "(ZIII)Z"⟩
theorem dX56_isGood_0 : decode cX56_isGood 0 = .ok (.iload_n 2, 1) := by decide +kernel
theorem dX56_isGood_1 : decode cX56_isGood 1 = .ok (.bipush 12, 2) := by decide +kernel
theorem dX56_isGood_3 : decode cX56_isGood 3 = .ok (.invokestatic 92, 3) := by decide +kernel
theorem dX56_isGood_6 : decode cX56_isGood 6 = .ok (.ifCond .eq 41, 3) := by decide +kernel
theorem dX56_isGood_9 : decode cX56_isGood 9 = .ok (.iload_n 0, 1) := by decide +kernel
theorem dX56_isGood_10 : decode cX56_isGood 10 = .ok (.ifCond .eq 24, 3) := by decide +kernel
theorem dX56_isGood_13 : decode cX56_isGood 13 = .ok (.iload_n 1, 1) := by decide +kernel
theorem dX56_isGood_14 : decode cX56_isGood 14 = .ok (.bipush 8, 2) := by decide +kernel
theorem dX56_isGood_16 : decode cX56_isGood 16 = .ok (.invokestatic 92, 3) := by decide +kernel
theorem dX56_isGood_19 : decode cX56_isGood 19 = .ok (.ifCond .eq 28, 3) := by decide +kernel
theorem dX56_isGood_22 : decode cX56_isGood 22 = .ok (.iload_n 3, 1) := by decide +kernel
theorem dX56_isGood_23 : decode cX56_isGood 23 = .ok (.bipush 12, 2) := by decide +kernel
theorem dX56_isGood_25 : decode cX56_isGood 25 = .ok (.invokestatic 92, 3) := by decide +kernel
theorem dX56_isGood_28 : decode cX56_isGood 28 = .ok (.ifCond .eq 19, 3) := by decide +kernel
theorem dX56_isGood_31 : decode cX56_isGood 31 = .ok (.goto 12, 3) := by decide +kernel
theorem dX56_isGood_34 : decode cX56_isGood 34 = .ok (.iload_n 1, 1) := by decide +kernel
theorem dX56_isGood_35 : decode cX56_isGood 35 = .ok (.bipush 10, 2) := by decide +kernel
theorem dX56_isGood_37 : decode cX56_isGood 37 = .ok (.invokestatic 92, 3) := by decide +kernel
theorem dX56_isGood_40 : decode cX56_isGood 40 = .ok (.ifCond .eq 7, 3) := by decide +kernel
theorem dX56_isGood_43 : decode cX56_isGood 43 = .ok (.iconst 1, 1) := by decide +kernel
theorem dX56_isGood_44 : decode cX56_isGood 44 = .ok (.goto 4, 3) := by decide +kernel
theorem dX56_isGood_47 : decode cX56_isGood 47 = .ok (.iconst 0, 1) := by decide +kernel
theorem dX56_isGood_48 : decode cX56_isGood 48 = .ok (.ireturn, 1) := by decide +kernel
abbrev cX56_findFact : ByteArray := prog_86_method_7_code
def yX56_findFact : MethodName := ⟨RX56, "findFact", "(III)I"⟩
theorem dX56_findFact_0 : decode cX56_findFact 0 = .ok (.iconst 0, 1) := by decide +kernel
theorem dX56_findFact_1 : decode cX56_findFact 1 = .ok (.istore 4, 2) := by decide +kernel
theorem dX56_findFact_3 : decode cX56_findFact 3 = .ok (.iload 4, 2) := by decide +kernel
theorem dX56_findFact_5 : decode cX56_findFact 5 = .ok (.aload_n 0, 1) := by decide +kernel
theorem dX56_findFact_6 : decode cX56_findFact 6 = .ok (.getfield 106, 3) := by decide +kernel
theorem dX56_findFact_9 : decode cX56_findFact 9 = .ok (.if_icmp .ge 42, 3) := by decide +kernel
theorem dX56_findFact_12 : decode cX56_findFact 12 = .ok (.aload_n 0, 1) := by decide +kernel
theorem dX56_findFact_13 : decode cX56_findFact 13 = .ok (.getfield 19, 3) := by decide +kernel
theorem dX56_findFact_16 : decode cX56_findFact 16 = .ok (.iload 4, 2) := by decide +kernel
theorem dX56_findFact_18 : decode cX56_findFact 18 = .ok (.iaload, 1) := by decide +kernel
theorem dX56_findFact_19 : decode cX56_findFact 19 = .ok (.iload_n 1, 1) := by decide +kernel
theorem dX56_findFact_20 : decode cX56_findFact 20 = .ok (.if_icmp .ne 25, 3) := by decide +kernel
theorem dX56_findFact_23 : decode cX56_findFact 23 = .ok (.aload_n 0, 1) := by decide +kernel
theorem dX56_findFact_24 : decode cX56_findFact 24 = .ok (.getfield 22, 3) := by decide +kernel
theorem dX56_findFact_27 : decode cX56_findFact 27 = .ok (.iload 4, 2) := by decide +kernel
theorem dX56_findFact_29 : decode cX56_findFact 29 = .ok (.iaload, 1) := by decide +kernel
theorem dX56_findFact_30 : decode cX56_findFact 30 = .ok (.iload_n 2, 1) := by decide +kernel
theorem dX56_findFact_31 : decode cX56_findFact 31 = .ok (.if_icmp .ne 14, 3) := by decide +kernel
theorem dX56_findFact_34 : decode cX56_findFact 34 = .ok (.aload_n 0, 1) := by decide +kernel
theorem dX56_findFact_35 : decode cX56_findFact 35 = .ok (.getfield 25, 3) := by decide +kernel
theorem dX56_findFact_38 : decode cX56_findFact 38 = .ok (.iload 4, 2) := by decide +kernel
theorem dX56_findFact_40 : decode cX56_findFact 40 = .ok (.iaload, 1) := by decide +kernel
theorem dX56_findFact_41 : decode cX56_findFact 41 = .ok (.iload_n 3, 1) := by decide +kernel
theorem dX56_findFact_42 : decode cX56_findFact 42 = .ok (.if_icmp .eq 9, 3) := by decide +kernel
theorem dX56_findFact_45 : decode cX56_findFact 45 = .ok (.iinc 4 1, 3) := by decide +kernel
theorem dX56_findFact_48 : decode cX56_findFact 48 = .ok (.goto (-45), 3) := by decide +kernel
theorem dX56_findFact_51 : decode cX56_findFact 51 = .ok (.iload 4, 2) := by decide +kernel
theorem dX56_findFact_53 : decode cX56_findFact 53 = .ok (.ireturn, 1) := by decide +kernel
abbrev cX56_forget : ByteArray := prog_86_method_9_code
def yX56_forget : MethodName := ⟨RX56, "forget", "(ZIII)I"⟩
theorem dX56_forget_0 : decode cX56_forget 0 = .ok (.iload_n 1, 1) := by decide +kernel
theorem dX56_forget_1 : decode cX56_forget 1 = .ok (.iload_n 2, 1) := by decide +kernel
theorem dX56_forget_2 : decode cX56_forget 2 = .ok (.iload_n 3, 1) := by decide +kernel
theorem dX56_forget_3 : decode cX56_forget 3 = .ok (.iload 4, 2) := by decide +kernel
theorem dX56_forget_5 : decode cX56_forget 5 = .ok (.invokestatic 109, 3) := by decide +kernel
theorem dX56_forget_8 : decode cX56_forget 8 = .ok (.ifCond .ne 5, 3) := by decide +kernel
theorem dX56_forget_11 : decode cX56_forget 11 = .ok (.iconst (-1), 1) := by decide +kernel
theorem dX56_forget_12 : decode cX56_forget 12 = .ok (.ireturn, 1) := by decide +kernel
theorem dX56_forget_13 : decode cX56_forget 13 = .ok (.aload_n 0, 1) := by decide +kernel
theorem dX56_forget_14 : decode cX56_forget 14 = .ok (.iload_n 1, 1) := by decide +kernel
theorem dX56_forget_15 : decode cX56_forget 15 = .ok (.ifCond .eq 10, 3) := by decide +kernel
theorem dX56_forget_18 : decode cX56_forget 18 = .ok (.bipush 32, 2) := by decide +kernel
theorem dX56_forget_20 : decode cX56_forget 20 = .ok (.iload_n 2, 1) := by decide +kernel
theorem dX56_forget_21 : decode cX56_forget 21 = .ok (.iadd, 1) := by decide +kernel
theorem dX56_forget_22 : decode cX56_forget 22 = .ok (.goto 4, 3) := by decide +kernel
theorem dX56_forget_25 : decode cX56_forget 25 = .ok (.iload_n 2, 1) := by decide +kernel
theorem dX56_forget_26 : decode cX56_forget 26 = .ok (.iload_n 3, 1) := by decide +kernel
theorem dX56_forget_27 : decode cX56_forget 27 = .ok (.iload_n 1, 1) := by decide +kernel
theorem dX56_forget_28 : decode cX56_forget 28 = .ok (.ifCond .eq 8, 3) := by decide +kernel
theorem dX56_forget_31 : decode cX56_forget 31 = .ok (.iload 4, 2) := by decide +kernel
theorem dX56_forget_33 : decode cX56_forget 33 = .ok (.goto 4, 3) := by decide +kernel
theorem dX56_forget_36 : decode cX56_forget 36 = .ok (.iconst 0, 1) := by decide +kernel
theorem dX56_forget_37 : decode cX56_forget 37 = .ok (.invokevirtual 113, 3) := by decide +kernel
theorem dX56_forget_40 : decode cX56_forget 40 = .ok (.istore 5, 2) := by decide +kernel
theorem dX56_forget_42 : decode cX56_forget 42 = .ok (.iload 5, 2) := by decide +kernel
theorem dX56_forget_44 : decode cX56_forget 44 = .ok (.aload_n 0, 1) := by decide +kernel
theorem dX56_forget_45 : decode cX56_forget 45 = .ok (.getfield 106, 3) := by decide +kernel
theorem dX56_forget_48 : decode cX56_forget 48 = .ok (.if_icmp .ne 5, 3) := by decide +kernel
theorem dX56_forget_51 : decode cX56_forget 51 = .ok (.iconst 0, 1) := by decide +kernel
theorem dX56_forget_52 : decode cX56_forget 52 = .ok (.ireturn, 1) := by decide +kernel
theorem dX56_forget_53 : decode cX56_forget 53 = .ok (.aload_n 0, 1) := by decide +kernel
theorem dX56_forget_54 : decode cX56_forget 54 = .ok (.dup, 1) := by decide +kernel
theorem dX56_forget_55 : decode cX56_forget 55 = .ok (.getfield 106, 3) := by decide +kernel
theorem dX56_forget_58 : decode cX56_forget 58 = .ok (.iconst 1, 1) := by decide +kernel
theorem dX56_forget_59 : decode cX56_forget 59 = .ok (.isub, 1) := by decide +kernel
theorem dX56_forget_60 : decode cX56_forget 60 = .ok (.putfield 106, 3) := by decide +kernel
theorem dX56_forget_63 : decode cX56_forget 63 = .ok (.aload_n 0, 1) := by decide +kernel
theorem dX56_forget_64 : decode cX56_forget 64 = .ok (.getfield 19, 3) := by decide +kernel
theorem dX56_forget_67 : decode cX56_forget 67 = .ok (.iload 5, 2) := by decide +kernel
theorem dX56_forget_69 : decode cX56_forget 69 = .ok (.aload_n 0, 1) := by decide +kernel
theorem dX56_forget_70 : decode cX56_forget 70 = .ok (.getfield 19, 3) := by decide +kernel
theorem dX56_forget_73 : decode cX56_forget 73 = .ok (.aload_n 0, 1) := by decide +kernel
theorem dX56_forget_74 : decode cX56_forget 74 = .ok (.getfield 106, 3) := by decide +kernel
theorem dX56_forget_77 : decode cX56_forget 77 = .ok (.iaload, 1) := by decide +kernel
theorem dX56_forget_78 : decode cX56_forget 78 = .ok (.iastore, 1) := by decide +kernel
theorem dX56_forget_79 : decode cX56_forget 79 = .ok (.aload_n 0, 1) := by decide +kernel
theorem dX56_forget_80 : decode cX56_forget 80 = .ok (.getfield 22, 3) := by decide +kernel
theorem dX56_forget_83 : decode cX56_forget 83 = .ok (.iload 5, 2) := by decide +kernel
theorem dX56_forget_85 : decode cX56_forget 85 = .ok (.aload_n 0, 1) := by decide +kernel
theorem dX56_forget_86 : decode cX56_forget 86 = .ok (.getfield 22, 3) := by decide +kernel
theorem dX56_forget_89 : decode cX56_forget 89 = .ok (.aload_n 0, 1) := by decide +kernel
theorem dX56_forget_90 : decode cX56_forget 90 = .ok (.getfield 106, 3) := by decide +kernel
theorem dX56_forget_93 : decode cX56_forget 93 = .ok (.iaload, 1) := by decide +kernel
theorem dX56_forget_94 : decode cX56_forget 94 = .ok (.iastore, 1) := by decide +kernel
theorem dX56_forget_95 : decode cX56_forget 95 = .ok (.aload_n 0, 1) := by decide +kernel
theorem dX56_forget_96 : decode cX56_forget 96 = .ok (.getfield 25, 3) := by decide +kernel
theorem dX56_forget_99 : decode cX56_forget 99 = .ok (.iload 5, 2) := by decide +kernel
theorem dX56_forget_101 : decode cX56_forget 101 = .ok (.aload_n 0, 1) := by decide +kernel
theorem dX56_forget_102 : decode cX56_forget 102 = .ok (.getfield 25, 3) := by decide +kernel
theorem dX56_forget_105 : decode cX56_forget 105 = .ok (.aload_n 0, 1) := by decide +kernel
theorem dX56_forget_106 : decode cX56_forget 106 = .ok (.getfield 106, 3) := by decide +kernel
theorem dX56_forget_109 : decode cX56_forget 109 = .ok (.iaload, 1) := by decide +kernel
theorem dX56_forget_110 : decode cX56_forget 110 = .ok (.iastore, 1) := by decide +kernel
theorem dX56_forget_111 : decode cX56_forget 111 = .ok (.aload_n 0, 1) := by decide +kernel
theorem dX56_forget_112 : decode cX56_forget 112 = .ok (.iconst 0, 1) := by decide +kernel
theorem dX56_forget_113 : decode cX56_forget 113 = .ok (.putfield 117, 3) := by decide +kernel
theorem dX56_forget_116 : decode cX56_forget 116 = .ok (.iconst 1, 1) := by decide +kernel
theorem dX56_forget_117 : decode cX56_forget 117 = .ok (.ireturn, 1) := by decide +kernel
abbrev cX56_question : ByteArray := prog_86_method_10_code
def yX56_question : MethodName := ⟨RX56, "question", "(I)I"⟩
theorem dX56_question_0 : decode cX56_question 0 = .ok (.iload_n 1, 1) := by decide +kernel
theorem dX56_question_1 : decode cX56_question 1 = .ok (.iconst 3, 1) := by decide +kernel
theorem dX56_question_2 : decode cX56_question 2 = .ok (.invokestatic 92, 3) := by decide +kernel
theorem dX56_question_5 : decode cX56_question 5 = .ok (.ifCond .ne 5, 3) := by decide +kernel
theorem dX56_question_8 : decode cX56_question 8 = .ok (.iconst (-1), 1) := by decide +kernel
theorem dX56_question_9 : decode cX56_question 9 = .ok (.ireturn, 1) := by decide +kernel
theorem dX56_question_10 : decode cX56_question 10 = .ok (.aload_n 0, 1) := by decide +kernel
theorem dX56_question_11 : decode cX56_question 11 = .ok (.getfield 121, 3) := by decide +kernel
theorem dX56_question_14 : decode cX56_question 14 = .ok (.bipush 6, 2) := by decide +kernel
theorem dX56_question_16 : decode cX56_question 16 = .ok (.if_icmp .ne 6, 3) := by decide +kernel
theorem dX56_question_19 : decode cX56_question 19 = .ok (.bipush (-2), 2) := by decide +kernel
theorem dX56_question_21 : decode cX56_question 21 = .ok (.ireturn, 1) := by decide +kernel
theorem dX56_question_22 : decode cX56_question 22 = .ok (.aload_n 0, 1) := by decide +kernel
theorem dX56_question_23 : decode cX56_question 23 = .ok (.getfield 28, 3) := by decide +kernel
theorem dX56_question_26 : decode cX56_question 26 = .ok (.aload_n 0, 1) := by decide +kernel
theorem dX56_question_27 : decode cX56_question 27 = .ok (.getfield 121, 3) := by decide +kernel
theorem dX56_question_30 : decode cX56_question 30 = .ok (.iload_n 1, 1) := by decide +kernel
theorem dX56_question_31 : decode cX56_question 31 = .ok (.iastore, 1) := by decide +kernel
theorem dX56_question_32 : decode cX56_question 32 = .ok (.aload_n 0, 1) := by decide +kernel
theorem dX56_question_33 : decode cX56_question 33 = .ok (.getfield 31, 3) := by decide +kernel
theorem dX56_question_36 : decode cX56_question 36 = .ok (.aload_n 0, 1) := by decide +kernel
theorem dX56_question_37 : decode cX56_question 37 = .ok (.getfield 121, 3) := by decide +kernel
theorem dX56_question_40 : decode cX56_question 40 = .ok (.iconst 0, 1) := by decide +kernel
theorem dX56_question_41 : decode cX56_question 41 = .ok (.iastore, 1) := by decide +kernel
theorem dX56_question_42 : decode cX56_question 42 = .ok (.aload_n 0, 1) := by decide +kernel
theorem dX56_question_43 : decode cX56_question 43 = .ok (.dup, 1) := by decide +kernel
theorem dX56_question_44 : decode cX56_question 44 = .ok (.getfield 121, 3) := by decide +kernel
theorem dX56_question_47 : decode cX56_question 47 = .ok (.iconst 1, 1) := by decide +kernel
theorem dX56_question_48 : decode cX56_question 48 = .ok (.iadd, 1) := by decide +kernel
theorem dX56_question_49 : decode cX56_question 49 = .ok (.putfield 121, 3) := by decide +kernel
theorem dX56_question_52 : decode cX56_question 52 = .ok (.aload_n 0, 1) := by decide +kernel
theorem dX56_question_53 : decode cX56_question 53 = .ok (.invokevirtual 103, 3) := by decide +kernel
theorem dX56_question_56 : decode cX56_question 56 = .ok (.aload_n 0, 1) := by decide +kernel
theorem dX56_question_57 : decode cX56_question 57 = .ok (.getfield 121, 3) := by decide +kernel
theorem dX56_question_60 : decode cX56_question 60 = .ok (.iconst 1, 1) := by decide +kernel
theorem dX56_question_61 : decode cX56_question 61 = .ok (.isub, 1) := by decide +kernel
theorem dX56_question_62 : decode cX56_question 62 = .ok (.ireturn, 1) := by decide +kernel
abbrev cX56_atom : ByteArray := prog_86_method_12_code
def yX56_atom : MethodName := ⟨RX56, "atom", "(IZIII)I"⟩
theorem dX56_atom_0 : decode cX56_atom 0 = .ok (.iload_n 1, 1) := by decide +kernel
theorem dX56_atom_1 : decode cX56_atom 1 = .ok (.aload_n 0, 1) := by decide +kernel
theorem dX56_atom_2 : decode cX56_atom 2 = .ok (.getfield 121, 3) := by decide +kernel
theorem dX56_atom_5 : decode cX56_atom 5 = .ok (.invokestatic 92, 3) := by decide +kernel
theorem dX56_atom_8 : decode cX56_atom 8 = .ok (.ifCond .eq 13, 3) := by decide +kernel
theorem dX56_atom_11 : decode cX56_atom 11 = .ok (.iload 4, 2) := by decide +kernel
theorem dX56_atom_13 : decode cX56_atom 13 = .ok (.bipush 8, 2) := by decide +kernel
theorem dX56_atom_15 : decode cX56_atom 15 = .ok (.invokestatic 92, 3) := by decide +kernel
theorem dX56_atom_18 : decode cX56_atom 18 = .ok (.ifCond .ne 5, 3) := by decide +kernel
theorem dX56_atom_21 : decode cX56_atom 21 = .ok (.iconst (-1), 1) := by decide +kernel
theorem dX56_atom_22 : decode cX56_atom 22 = .ok (.ireturn, 1) := by decide +kernel
theorem dX56_atom_23 : decode cX56_atom 23 = .ok (.iload_n 2, 1) := by decide +kernel
theorem dX56_atom_24 : decode cX56_atom 24 = .ok (.ifCond .eq 25, 3) := by decide +kernel
theorem dX56_atom_27 : decode cX56_atom 27 = .ok (.iload_n 3, 1) := by decide +kernel
theorem dX56_atom_28 : decode cX56_atom 28 = .ok (.bipush 8, 2) := by decide +kernel
theorem dX56_atom_30 : decode cX56_atom 30 = .ok (.invokestatic 92, 3) := by decide +kernel
theorem dX56_atom_33 : decode cX56_atom 33 = .ok (.ifCond .eq 25, 3) := by decide +kernel
theorem dX56_atom_36 : decode cX56_atom 36 = .ok (.iload 5, 2) := by decide +kernel
theorem dX56_atom_38 : decode cX56_atom 38 = .ok (.bipush 8, 2) := by decide +kernel
theorem dX56_atom_40 : decode cX56_atom 40 = .ok (.invokestatic 92, 3) := by decide +kernel
theorem dX56_atom_43 : decode cX56_atom 43 = .ok (.ifCond .ne 17, 3) := by decide +kernel
theorem dX56_atom_46 : decode cX56_atom 46 = .ok (.goto 12, 3) := by decide +kernel
theorem dX56_atom_49 : decode cX56_atom 49 = .ok (.iload_n 3, 1) := by decide +kernel
theorem dX56_atom_50 : decode cX56_atom 50 = .ok (.bipush 10, 2) := by decide +kernel
theorem dX56_atom_52 : decode cX56_atom 52 = .ok (.invokestatic 92, 3) := by decide +kernel
theorem dX56_atom_55 : decode cX56_atom 55 = .ok (.ifCond .ne 5, 3) := by decide +kernel
theorem dX56_atom_58 : decode cX56_atom 58 = .ok (.iconst (-1), 1) := by decide +kernel
theorem dX56_atom_59 : decode cX56_atom 59 = .ok (.ireturn, 1) := by decide +kernel
theorem dX56_atom_60 : decode cX56_atom 60 = .ok (.iload_n 2, 1) := by decide +kernel
theorem dX56_atom_61 : decode cX56_atom 61 = .ok (.ifCond .eq 10, 3) := by decide +kernel
theorem dX56_atom_64 : decode cX56_atom 64 = .ok (.bipush 32, 2) := by decide +kernel
theorem dX56_atom_66 : decode cX56_atom 66 = .ok (.iload_n 3, 1) := by decide +kernel
theorem dX56_atom_67 : decode cX56_atom 67 = .ok (.iadd, 1) := by decide +kernel
theorem dX56_atom_68 : decode cX56_atom 68 = .ok (.goto 4, 3) := by decide +kernel
theorem dX56_atom_71 : decode cX56_atom 71 = .ok (.iload_n 3, 1) := by decide +kernel
theorem dX56_atom_72 : decode cX56_atom 72 = .ok (.istore 6, 2) := by decide +kernel
theorem dX56_atom_74 : decode cX56_atom 74 = .ok (.iload_n 2, 1) := by decide +kernel
theorem dX56_atom_75 : decode cX56_atom 75 = .ok (.ifCond .eq 11, 3) := by decide +kernel
theorem dX56_atom_78 : decode cX56_atom 78 = .ok (.bipush 10, 2) := by decide +kernel
theorem dX56_atom_80 : decode cX56_atom 80 = .ok (.iload 5, 2) := by decide +kernel
theorem dX56_atom_82 : decode cX56_atom 82 = .ok (.iadd, 1) := by decide +kernel
theorem dX56_atom_83 : decode cX56_atom 83 = .ok (.goto 5, 3) := by decide +kernel
theorem dX56_atom_86 : decode cX56_atom 86 = .ok (.bipush 7, 2) := by decide +kernel
theorem dX56_atom_88 : decode cX56_atom 88 = .ok (.istore 7, 2) := by decide +kernel
theorem dX56_atom_90 : decode cX56_atom 90 = .ok (.iconst 0, 1) := by decide +kernel
theorem dX56_atom_91 : decode cX56_atom 91 = .ok (.istore 8, 2) := by decide +kernel
theorem dX56_atom_93 : decode cX56_atom 93 = .ok (.iconst 4, 1) := by decide +kernel
theorem dX56_atom_94 : decode cX56_atom 94 = .ok (.iload_n 1, 1) := by decide +kernel
theorem dX56_atom_95 : decode cX56_atom 95 = .ok (.imul, 1) := by decide +kernel
theorem dX56_atom_96 : decode cX56_atom 96 = .ok (.istore 9, 2) := by decide +kernel
theorem dX56_atom_98 : decode cX56_atom 98 = .ok (.iload 9, 2) := by decide +kernel
theorem dX56_atom_100 : decode cX56_atom 100 = .ok (.iconst 4, 1) := by decide +kernel
theorem dX56_atom_101 : decode cX56_atom 101 = .ok (.iload_n 1, 1) := by decide +kernel
theorem dX56_atom_102 : decode cX56_atom 102 = .ok (.imul, 1) := by decide +kernel
theorem dX56_atom_103 : decode cX56_atom 103 = .ok (.aload_n 0, 1) := by decide +kernel
theorem dX56_atom_104 : decode cX56_atom 104 = .ok (.getfield 31, 3) := by decide +kernel
theorem dX56_atom_107 : decode cX56_atom 107 = .ok (.iload_n 1, 1) := by decide +kernel
theorem dX56_atom_108 : decode cX56_atom 108 = .ok (.iaload, 1) := by decide +kernel
theorem dX56_atom_109 : decode cX56_atom 109 = .ok (.iadd, 1) := by decide +kernel
theorem dX56_atom_110 : decode cX56_atom 110 = .ok (.if_icmp .ge 60, 3) := by decide +kernel
theorem dX56_atom_113 : decode cX56_atom 113 = .ok (.iload 8, 2) := by decide +kernel
theorem dX56_atom_115 : decode cX56_atom 115 = .ok (.ifCond .ne 42, 3) := by decide +kernel
theorem dX56_atom_118 : decode cX56_atom 118 = .ok (.aload_n 0, 1) := by decide +kernel
theorem dX56_atom_119 : decode cX56_atom 119 = .ok (.getfield 34, 3) := by decide +kernel
theorem dX56_atom_122 : decode cX56_atom 122 = .ok (.iload 9, 2) := by decide +kernel
theorem dX56_atom_124 : decode cX56_atom 124 = .ok (.iaload, 1) := by decide +kernel
theorem dX56_atom_125 : decode cX56_atom 125 = .ok (.iload 6, 2) := by decide +kernel
theorem dX56_atom_127 : decode cX56_atom 127 = .ok (.if_icmp .ne 34, 3) := by decide +kernel
theorem dX56_atom_130 : decode cX56_atom 130 = .ok (.aload_n 0, 1) := by decide +kernel
theorem dX56_atom_131 : decode cX56_atom 131 = .ok (.getfield 37, 3) := by decide +kernel
theorem dX56_atom_134 : decode cX56_atom 134 = .ok (.iload 9, 2) := by decide +kernel
theorem dX56_atom_136 : decode cX56_atom 136 = .ok (.iaload, 1) := by decide +kernel
theorem dX56_atom_137 : decode cX56_atom 137 = .ok (.bipush 10, 2) := by decide +kernel
theorem dX56_atom_139 : decode cX56_atom 139 = .ok (.iload 4, 2) := by decide +kernel
theorem dX56_atom_141 : decode cX56_atom 141 = .ok (.iadd, 1) := by decide +kernel
theorem dX56_atom_142 : decode cX56_atom 142 = .ok (.if_icmp .ne 19, 3) := by decide +kernel
theorem dX56_atom_145 : decode cX56_atom 145 = .ok (.aload_n 0, 1) := by decide +kernel
theorem dX56_atom_146 : decode cX56_atom 146 = .ok (.getfield 40, 3) := by decide +kernel
theorem dX56_atom_149 : decode cX56_atom 149 = .ok (.iload 9, 2) := by decide +kernel
theorem dX56_atom_151 : decode cX56_atom 151 = .ok (.iaload, 1) := by decide +kernel
theorem dX56_atom_152 : decode cX56_atom 152 = .ok (.iload 7, 2) := by decide +kernel
theorem dX56_atom_154 : decode cX56_atom 154 = .ok (.if_icmp .ne 7, 3) := by decide +kernel
theorem dX56_atom_157 : decode cX56_atom 157 = .ok (.iconst 1, 1) := by decide +kernel
theorem dX56_atom_158 : decode cX56_atom 158 = .ok (.goto 4, 3) := by decide +kernel
theorem dX56_atom_161 : decode cX56_atom 161 = .ok (.iconst 0, 1) := by decide +kernel
theorem dX56_atom_162 : decode cX56_atom 162 = .ok (.istore 8, 2) := by decide +kernel
theorem dX56_atom_164 : decode cX56_atom 164 = .ok (.iinc 9 1, 3) := by decide +kernel
theorem dX56_atom_167 : decode cX56_atom 167 = .ok (.goto (-69), 3) := by decide +kernel
theorem dX56_atom_170 : decode cX56_atom 170 = .ok (.iload 8, 2) := by decide +kernel
theorem dX56_atom_172 : decode cX56_atom 172 = .ok (.ifCond .eq 10, 3) := by decide +kernel
theorem dX56_atom_175 : decode cX56_atom 175 = .ok (.aload_n 0, 1) := by decide +kernel
theorem dX56_atom_176 : decode cX56_atom 176 = .ok (.getfield 31, 3) := by decide +kernel
theorem dX56_atom_179 : decode cX56_atom 179 = .ok (.iload_n 1, 1) := by decide +kernel
theorem dX56_atom_180 : decode cX56_atom 180 = .ok (.iaload, 1) := by decide +kernel
theorem dX56_atom_181 : decode cX56_atom 181 = .ok (.ireturn, 1) := by decide +kernel
theorem dX56_atom_182 : decode cX56_atom 182 = .ok (.aload_n 0, 1) := by decide +kernel
theorem dX56_atom_183 : decode cX56_atom 183 = .ok (.getfield 31, 3) := by decide +kernel
theorem dX56_atom_186 : decode cX56_atom 186 = .ok (.iload_n 1, 1) := by decide +kernel
theorem dX56_atom_187 : decode cX56_atom 187 = .ok (.iaload, 1) := by decide +kernel
theorem dX56_atom_188 : decode cX56_atom 188 = .ok (.iconst 4, 1) := by decide +kernel
theorem dX56_atom_189 : decode cX56_atom 189 = .ok (.if_icmp .ne 6, 3) := by decide +kernel
theorem dX56_atom_192 : decode cX56_atom 192 = .ok (.bipush (-2), 2) := by decide +kernel
theorem dX56_atom_194 : decode cX56_atom 194 = .ok (.ireturn, 1) := by decide +kernel
theorem dX56_atom_195 : decode cX56_atom 195 = .ok (.aload_n 0, 1) := by decide +kernel
theorem dX56_atom_196 : decode cX56_atom 196 = .ok (.iload_n 1, 1) := by decide +kernel
theorem dX56_atom_197 : decode cX56_atom 197 = .ok (.iload 6, 2) := by decide +kernel
theorem dX56_atom_199 : decode cX56_atom 199 = .ok (.bipush 10, 2) := by decide +kernel
theorem dX56_atom_201 : decode cX56_atom 201 = .ok (.iload 4, 2) := by decide +kernel
theorem dX56_atom_203 : decode cX56_atom 203 = .ok (.iadd, 1) := by decide +kernel
theorem dX56_atom_204 : decode cX56_atom 204 = .ok (.iload 7, 2) := by decide +kernel
theorem dX56_atom_206 : decode cX56_atom 206 = .ok (.invokevirtual 124, 3) := by decide +kernel
theorem dX56_atom_209 : decode cX56_atom 209 = .ok (.aload_n 0, 1) := by decide +kernel
theorem dX56_atom_210 : decode cX56_atom 210 = .ok (.invokevirtual 103, 3) := by decide +kernel
theorem dX56_atom_213 : decode cX56_atom 213 = .ok (.aload_n 0, 1) := by decide +kernel
theorem dX56_atom_214 : decode cX56_atom 214 = .ok (.getfield 31, 3) := by decide +kernel
theorem dX56_atom_217 : decode cX56_atom 217 = .ok (.iload_n 1, 1) := by decide +kernel
theorem dX56_atom_218 : decode cX56_atom 218 = .ok (.iaload, 1) := by decide +kernel
theorem dX56_atom_219 : decode cX56_atom 219 = .ok (.ireturn, 1) := by decide +kernel
abbrev cX56_put : ByteArray := prog_86_method_11_code
def yX56_put : MethodName := ⟨RX56, "put", "(IIII)V"⟩
theorem dX56_put_0 : decode cX56_put 0 = .ok (.iconst 4, 1) := by decide +kernel
theorem dX56_put_1 : decode cX56_put 1 = .ok (.iload_n 1, 1) := by decide +kernel
theorem dX56_put_2 : decode cX56_put 2 = .ok (.imul, 1) := by decide +kernel
theorem dX56_put_3 : decode cX56_put 3 = .ok (.istore 5, 2) := by decide +kernel
theorem dX56_put_5 : decode cX56_put 5 = .ok (.iload 5, 2) := by decide +kernel
theorem dX56_put_7 : decode cX56_put 7 = .ok (.iconst 4, 1) := by decide +kernel
theorem dX56_put_8 : decode cX56_put 8 = .ok (.iload_n 1, 1) := by decide +kernel
theorem dX56_put_9 : decode cX56_put 9 = .ok (.imul, 1) := by decide +kernel
theorem dX56_put_10 : decode cX56_put 10 = .ok (.aload_n 0, 1) := by decide +kernel
theorem dX56_put_11 : decode cX56_put 11 = .ok (.getfield 31, 3) := by decide +kernel
theorem dX56_put_14 : decode cX56_put 14 = .ok (.iload_n 1, 1) := by decide +kernel
theorem dX56_put_15 : decode cX56_put 15 = .ok (.iaload, 1) := by decide +kernel
theorem dX56_put_16 : decode cX56_put 16 = .ok (.iadd, 1) := by decide +kernel
theorem dX56_put_17 : decode cX56_put 17 = .ok (.if_icmp .ge 44, 3) := by decide +kernel
theorem dX56_put_20 : decode cX56_put 20 = .ok (.aload_n 0, 1) := by decide +kernel
theorem dX56_put_21 : decode cX56_put 21 = .ok (.getfield 34, 3) := by decide +kernel
theorem dX56_put_24 : decode cX56_put 24 = .ok (.iload 5, 2) := by decide +kernel
theorem dX56_put_26 : decode cX56_put 26 = .ok (.iaload, 1) := by decide +kernel
theorem dX56_put_27 : decode cX56_put 27 = .ok (.iload_n 2, 1) := by decide +kernel
theorem dX56_put_28 : decode cX56_put 28 = .ok (.if_icmp .ne 27, 3) := by decide +kernel
theorem dX56_put_31 : decode cX56_put 31 = .ok (.aload_n 0, 1) := by decide +kernel
theorem dX56_put_32 : decode cX56_put 32 = .ok (.getfield 37, 3) := by decide +kernel
theorem dX56_put_35 : decode cX56_put 35 = .ok (.iload 5, 2) := by decide +kernel
theorem dX56_put_37 : decode cX56_put 37 = .ok (.iaload, 1) := by decide +kernel
theorem dX56_put_38 : decode cX56_put 38 = .ok (.iload_n 3, 1) := by decide +kernel
theorem dX56_put_39 : decode cX56_put 39 = .ok (.if_icmp .ne 16, 3) := by decide +kernel
theorem dX56_put_42 : decode cX56_put 42 = .ok (.aload_n 0, 1) := by decide +kernel
theorem dX56_put_43 : decode cX56_put 43 = .ok (.getfield 40, 3) := by decide +kernel
theorem dX56_put_46 : decode cX56_put 46 = .ok (.iload 5, 2) := by decide +kernel
theorem dX56_put_48 : decode cX56_put 48 = .ok (.iaload, 1) := by decide +kernel
theorem dX56_put_49 : decode cX56_put 49 = .ok (.iload 4, 2) := by decide +kernel
theorem dX56_put_51 : decode cX56_put 51 = .ok (.if_icmp .ne 4, 3) := by decide +kernel
theorem dX56_put_54 : decode cX56_put 54 = .ok (.return_, 1) := by decide +kernel
theorem dX56_put_55 : decode cX56_put 55 = .ok (.iinc 5 1, 3) := by decide +kernel
theorem dX56_put_58 : decode cX56_put 58 = .ok (.goto (-53), 3) := by decide +kernel
theorem dX56_put_61 : decode cX56_put 61 = .ok (.iconst 4, 1) := by decide +kernel
theorem dX56_put_62 : decode cX56_put 62 = .ok (.iload_n 1, 1) := by decide +kernel
theorem dX56_put_63 : decode cX56_put 63 = .ok (.imul, 1) := by decide +kernel
theorem dX56_put_64 : decode cX56_put 64 = .ok (.aload_n 0, 1) := by decide +kernel
theorem dX56_put_65 : decode cX56_put 65 = .ok (.getfield 31, 3) := by decide +kernel
theorem dX56_put_68 : decode cX56_put 68 = .ok (.iload_n 1, 1) := by decide +kernel
theorem dX56_put_69 : decode cX56_put 69 = .ok (.iaload, 1) := by decide +kernel
theorem dX56_put_70 : decode cX56_put 70 = .ok (.iadd, 1) := by decide +kernel
theorem dX56_put_71 : decode cX56_put 71 = .ok (.istore 5, 2) := by decide +kernel
theorem dX56_put_73 : decode cX56_put 73 = .ok (.aload_n 0, 1) := by decide +kernel
theorem dX56_put_74 : decode cX56_put 74 = .ok (.getfield 34, 3) := by decide +kernel
theorem dX56_put_77 : decode cX56_put 77 = .ok (.iload 5, 2) := by decide +kernel
theorem dX56_put_79 : decode cX56_put 79 = .ok (.iload_n 2, 1) := by decide +kernel
theorem dX56_put_80 : decode cX56_put 80 = .ok (.iastore, 1) := by decide +kernel
theorem dX56_put_81 : decode cX56_put 81 = .ok (.aload_n 0, 1) := by decide +kernel
theorem dX56_put_82 : decode cX56_put 82 = .ok (.getfield 37, 3) := by decide +kernel
theorem dX56_put_85 : decode cX56_put 85 = .ok (.iload 5, 2) := by decide +kernel
theorem dX56_put_87 : decode cX56_put 87 = .ok (.iload_n 3, 1) := by decide +kernel
theorem dX56_put_88 : decode cX56_put 88 = .ok (.iastore, 1) := by decide +kernel
theorem dX56_put_89 : decode cX56_put 89 = .ok (.aload_n 0, 1) := by decide +kernel
theorem dX56_put_90 : decode cX56_put 90 = .ok (.getfield 40, 3) := by decide +kernel
theorem dX56_put_93 : decode cX56_put 93 = .ok (.iload 5, 2) := by decide +kernel
theorem dX56_put_95 : decode cX56_put 95 = .ok (.iload 4, 2) := by decide +kernel
theorem dX56_put_97 : decode cX56_put 97 = .ok (.iastore, 1) := by decide +kernel
theorem dX56_put_98 : decode cX56_put 98 = .ok (.aload_n 0, 1) := by decide +kernel
theorem dX56_put_99 : decode cX56_put 99 = .ok (.getfield 31, 3) := by decide +kernel
theorem dX56_put_102 : decode cX56_put 102 = .ok (.iload_n 1, 1) := by decide +kernel
theorem dX56_put_103 : decode cX56_put 103 = .ok (.dup2, 1) := by decide +kernel
theorem dX56_put_104 : decode cX56_put 104 = .ok (.iaload, 1) := by decide +kernel
theorem dX56_put_105 : decode cX56_put 105 = .ok (.iconst 1, 1) := by decide +kernel
theorem dX56_put_106 : decode cX56_put 106 = .ok (.iadd, 1) := by decide +kernel
theorem dX56_put_107 : decode cX56_put 107 = .ok (.iastore, 1) := by decide +kernel
theorem dX56_put_108 : decode cX56_put 108 = .ok (.return_, 1) := by decide +kernel
abbrev cX56_forms : ByteArray := prog_86_method_38_code
def yX56_forms : MethodName := ⟨RX56, "forms", "(I)I"⟩
theorem dX56_forms_0 : decode cX56_forms 0 = .ok (.aload_n 0, 1) := by decide +kernel
theorem dX56_forms_1 : decode cX56_forms 1 = .ok (.iload_n 1, 1) := by decide +kernel
theorem dX56_forms_2 : decode cX56_forms 2 = .ok (.invokevirtual 221, 3) := by decide +kernel
theorem dX56_forms_5 : decode cX56_forms 5 = .ok (.istore_n 2, 1) := by decide +kernel
theorem dX56_forms_6 : decode cX56_forms 6 = .ok (.iload_n 2, 1) := by decide +kernel
theorem dX56_forms_7 : decode cX56_forms 7 = .ok (.ifCond .ge 7, 3) := by decide +kernel
theorem dX56_forms_10 : decode cX56_forms 10 = .ok (.iload_n 2, 1) := by decide +kernel
theorem dX56_forms_11 : decode cX56_forms 11 = .ok (.goto 7, 3) := by decide +kernel
theorem dX56_forms_14 : decode cX56_forms 14 = .ok (.aload_n 0, 1) := by decide +kernel
theorem dX56_forms_15 : decode cX56_forms 15 = .ok (.getfield 181, 3) := by decide +kernel
theorem dX56_forms_18 : decode cX56_forms 18 = .ok (.ireturn, 1) := by decide +kernel
abbrev cX56_ready : ByteArray := prog_86_method_37_code
def yX56_ready : MethodName := ⟨RX56, "ready", "(I)I"⟩
theorem dX56_ready_0 : decode cX56_ready 0 = .ok (.iload_n 1, 1) := by decide +kernel
theorem dX56_ready_1 : decode cX56_ready 1 = .ok (.aload_n 0, 1) := by decide +kernel
theorem dX56_ready_2 : decode cX56_ready 2 = .ok (.getfield 121, 3) := by decide +kernel
theorem dX56_ready_5 : decode cX56_ready 5 = .ok (.invokestatic 92, 3) := by decide +kernel
theorem dX56_ready_8 : decode cX56_ready 8 = .ok (.ifCond .eq 12, 3) := by decide +kernel
theorem dX56_ready_11 : decode cX56_ready 11 = .ok (.aload_n 0, 1) := by decide +kernel
theorem dX56_ready_12 : decode cX56_ready 12 = .ok (.getfield 31, 3) := by decide +kernel
theorem dX56_ready_15 : decode cX56_ready 15 = .ok (.iload_n 1, 1) := by decide +kernel
theorem dX56_ready_16 : decode cX56_ready 16 = .ok (.iaload, 1) := by decide +kernel
theorem dX56_ready_17 : decode cX56_ready 17 = .ok (.ifCond .ne 5, 3) := by decide +kernel
theorem dX56_ready_20 : decode cX56_ready 20 = .ok (.iconst (-1), 1) := by decide +kernel
theorem dX56_ready_21 : decode cX56_ready 21 = .ok (.ireturn, 1) := by decide +kernel
theorem dX56_ready_22 : decode cX56_ready 22 = .ok (.aload_n 0, 1) := by decide +kernel
theorem dX56_ready_23 : decode cX56_ready 23 = .ok (.iload_n 1, 1) := by decide +kernel
theorem dX56_ready_24 : decode cX56_ready 24 = .ok (.invokevirtual 218, 3) := by decide +kernel
theorem dX56_ready_27 : decode cX56_ready 27 = .ok (.aload_n 0, 1) := by decide +kernel
theorem dX56_ready_28 : decode cX56_ready 28 = .ok (.getfield 184, 3) := by decide +kernel
theorem dX56_ready_31 : decode cX56_ready 31 = .ok (.ifCond .eq 8, 3) := by decide +kernel
theorem dX56_ready_34 : decode cX56_ready 34 = .ok (.bipush (-3), 2) := by decide +kernel
theorem dX56_ready_36 : decode cX56_ready 36 = .ok (.goto 4, 3) := by decide +kernel
theorem dX56_ready_39 : decode cX56_ready 39 = .ok (.iconst 1, 1) := by decide +kernel
theorem dX56_ready_40 : decode cX56_ready 40 = .ok (.ireturn, 1) := by decide +kernel
abbrev cX56_look : ByteArray := prog_86_method_31_code
def yX56_look : MethodName := ⟨RX56, "look", "(I)V"⟩
theorem dX56_look_0 : decode cX56_look 0 = .ok (.aload_n 0, 1) := by decide +kernel
theorem dX56_look_1 : decode cX56_look 1 = .ok (.getfield 73, 3) := by decide +kernel
theorem dX56_look_4 : decode cX56_look 4 = .ok (.iload_n 1, 1) := by decide +kernel
theorem dX56_look_5 : decode cX56_look 5 = .ok (.if_icmp .ne 10, 3) := by decide +kernel
theorem dX56_look_8 : decode cX56_look 8 = .ok (.iload_n 1, 1) := by decide +kernel
theorem dX56_look_9 : decode cX56_look 9 = .ok (.bipush 6, 2) := by decide +kernel
theorem dX56_look_11 : decode cX56_look 11 = .ok (.if_icmp .ge 4, 3) := by decide +kernel
theorem dX56_look_14 : decode cX56_look 14 = .ok (.return_, 1) := by decide +kernel
theorem dX56_look_15 : decode cX56_look 15 = .ok (.aload_n 0, 1) := by decide +kernel
theorem dX56_look_16 : decode cX56_look 16 = .ok (.iload_n 1, 1) := by decide +kernel
theorem dX56_look_17 : decode cX56_look 17 = .ok (.putfield 73, 3) := by decide +kernel
theorem dX56_look_20 : decode cX56_look 20 = .ok (.aload_n 0, 1) := by decide +kernel
theorem dX56_look_21 : decode cX56_look 21 = .ok (.iconst 0, 1) := by decide +kernel
theorem dX56_look_22 : decode cX56_look 22 = .ok (.putfield 117, 3) := by decide +kernel
theorem dX56_look_25 : decode cX56_look 25 = .ok (.aload_n 0, 1) := by decide +kernel
theorem dX56_look_26 : decode cX56_look 26 = .ok (.iconst 0, 1) := by decide +kernel
theorem dX56_look_27 : decode cX56_look 27 = .ok (.putfield 181, 3) := by decide +kernel
theorem dX56_look_30 : decode cX56_look 30 = .ok (.aload_n 0, 1) := by decide +kernel
theorem dX56_look_31 : decode cX56_look 31 = .ok (.iconst 0, 1) := by decide +kernel
theorem dX56_look_32 : decode cX56_look 32 = .ok (.putfield 184, 3) := by decide +kernel
theorem dX56_look_35 : decode cX56_look 35 = .ok (.aload_n 0, 1) := by decide +kernel
theorem dX56_look_36 : decode cX56_look 36 = .ok (.aload_n 0, 1) := by decide +kernel
theorem dX56_look_37 : decode cX56_look 37 = .ok (.getfield 28, 3) := by decide +kernel
theorem dX56_look_40 : decode cX56_look 40 = .ok (.iload_n 1, 1) := by decide +kernel
theorem dX56_look_41 : decode cX56_look 41 = .ok (.iaload, 1) := by decide +kernel
theorem dX56_look_42 : decode cX56_look 42 = .ok (.ifCond .le 8, 3) := by decide +kernel
theorem dX56_look_45 : decode cX56_look 45 = .ok (.bipush 10, 2) := by decide +kernel
theorem dX56_look_47 : decode cX56_look 47 = .ok (.goto 4, 3) := by decide +kernel
theorem dX56_look_50 : decode cX56_look 50 = .ok (.iconst (-1), 1) := by decide +kernel
theorem dX56_look_51 : decode cX56_look 51 = .ok (.aload_n 0, 1) := by decide +kernel
theorem dX56_look_52 : decode cX56_look 52 = .ok (.getfield 28, 3) := by decide +kernel
theorem dX56_look_55 : decode cX56_look 55 = .ok (.iload_n 1, 1) := by decide +kernel
theorem dX56_look_56 : decode cX56_look 56 = .ok (.iaload, 1) := by decide +kernel
theorem dX56_look_57 : decode cX56_look 57 = .ok (.iconst 1, 1) := by decide +kernel
theorem dX56_look_58 : decode cX56_look 58 = .ok (.if_icmp .le 8, 3) := by decide +kernel
theorem dX56_look_61 : decode cX56_look 61 = .ok (.bipush 11, 2) := by decide +kernel
theorem dX56_look_63 : decode cX56_look 63 = .ok (.goto 4, 3) := by decide +kernel
theorem dX56_look_66 : decode cX56_look 66 = .ok (.iconst (-1), 1) := by decide +kernel
theorem dX56_look_67 : decode cX56_look 67 = .ok (.invokevirtual 137, 3) := by decide +kernel
theorem dX56_look_70 : decode cX56_look 70 = .ok (.iconst 4, 1) := by decide +kernel
theorem dX56_look_71 : decode cX56_look 71 = .ok (.iload_n 1, 1) := by decide +kernel
theorem dX56_look_72 : decode cX56_look 72 = .ok (.imul, 1) := by decide +kernel
theorem dX56_look_73 : decode cX56_look 73 = .ok (.istore_n 2, 1) := by decide +kernel
theorem dX56_look_74 : decode cX56_look 74 = .ok (.iload_n 2, 1) := by decide +kernel
theorem dX56_look_75 : decode cX56_look 75 = .ok (.iconst 4, 1) := by decide +kernel
theorem dX56_look_76 : decode cX56_look 76 = .ok (.iload_n 1, 1) := by decide +kernel
theorem dX56_look_77 : decode cX56_look 77 = .ok (.imul, 1) := by decide +kernel
theorem dX56_look_78 : decode cX56_look 78 = .ok (.aload_n 0, 1) := by decide +kernel
theorem dX56_look_79 : decode cX56_look 79 = .ok (.getfield 31, 3) := by decide +kernel
theorem dX56_look_82 : decode cX56_look 82 = .ok (.iload_n 1, 1) := by decide +kernel
theorem dX56_look_83 : decode cX56_look 83 = .ok (.iaload, 1) := by decide +kernel
theorem dX56_look_84 : decode cX56_look 84 = .ok (.iadd, 1) := by decide +kernel
theorem dX56_look_85 : decode cX56_look 85 = .ok (.if_icmp .ge 31, 3) := by decide +kernel
theorem dX56_look_88 : decode cX56_look 88 = .ok (.aload_n 0, 1) := by decide +kernel
theorem dX56_look_89 : decode cX56_look 89 = .ok (.aload_n 0, 1) := by decide +kernel
theorem dX56_look_90 : decode cX56_look 90 = .ok (.getfield 34, 3) := by decide +kernel
theorem dX56_look_93 : decode cX56_look 93 = .ok (.iload_n 2, 1) := by decide +kernel
theorem dX56_look_94 : decode cX56_look 94 = .ok (.iaload, 1) := by decide +kernel
theorem dX56_look_95 : decode cX56_look 95 = .ok (.aload_n 0, 1) := by decide +kernel
theorem dX56_look_96 : decode cX56_look 96 = .ok (.getfield 37, 3) := by decide +kernel
theorem dX56_look_99 : decode cX56_look 99 = .ok (.iload_n 2, 1) := by decide +kernel
theorem dX56_look_100 : decode cX56_look 100 = .ok (.iaload, 1) := by decide +kernel
theorem dX56_look_101 : decode cX56_look 101 = .ok (.aload_n 0, 1) := by decide +kernel
theorem dX56_look_102 : decode cX56_look 102 = .ok (.getfield 40, 3) := by decide +kernel
theorem dX56_look_105 : decode cX56_look 105 = .ok (.iload_n 2, 1) := by decide +kernel
theorem dX56_look_106 : decode cX56_look 106 = .ok (.iaload, 1) := by decide +kernel
theorem dX56_look_107 : decode cX56_look 107 = .ok (.invokevirtual 141, 3) := by decide +kernel
theorem dX56_look_110 : decode cX56_look 110 = .ok (.iinc 2 1, 3) := by decide +kernel
theorem dX56_look_113 : decode cX56_look 113 = .ok (.goto (-39), 3) := by decide +kernel
theorem dX56_look_116 : decode cX56_look 116 = .ok (.aload_n 0, 1) := by decide +kernel
theorem dX56_look_117 : decode cX56_look 117 = .ok (.invokevirtual 190, 3) := by decide +kernel
theorem dX56_look_120 : decode cX56_look 120 = .ok (.iconst 0, 1) := by decide +kernel
theorem dX56_look_121 : decode cX56_look 121 = .ok (.istore_n 2, 1) := by decide +kernel
theorem dX56_look_122 : decode cX56_look 122 = .ok (.iload_n 2, 1) := by decide +kernel
theorem dX56_look_123 : decode cX56_look 123 = .ok (.aload_n 0, 1) := by decide +kernel
theorem dX56_look_124 : decode cX56_look 124 = .ok (.getfield 181, 3) := by decide +kernel
theorem dX56_look_127 : decode cX56_look 127 = .ok (.if_icmp .ge 137, 3) := by decide +kernel
theorem dX56_look_130 : decode cX56_look 130 = .ok (.aload_n 0, 1) := by decide +kernel
theorem dX56_look_131 : decode cX56_look 131 = .ok (.getfield 184, 3) := by decide +kernel
theorem dX56_look_134 : decode cX56_look 134 = .ok (.ifCond .ne 130, 3) := by decide +kernel
theorem dX56_look_137 : decode cX56_look 137 = .ok (.iconst 0, 1) := by decide +kernel
theorem dX56_look_138 : decode cX56_look 138 = .ok (.istore_n 3, 1) := by decide +kernel
theorem dX56_look_139 : decode cX56_look 139 = .ok (.iload_n 3, 1) := by decide +kernel
theorem dX56_look_140 : decode cX56_look 140 = .ok (.aload_n 0, 1) := by decide +kernel
theorem dX56_look_141 : decode cX56_look 141 = .ok (.getfield 61, 3) := by decide +kernel
theorem dX56_look_144 : decode cX56_look 144 = .ok (.iload_n 2, 1) := by decide +kernel
theorem dX56_look_145 : decode cX56_look 145 = .ok (.iaload, 1) := by decide +kernel
theorem dX56_look_146 : decode cX56_look 146 = .ok (.if_icmp .ge 64, 3) := by decide +kernel
theorem dX56_look_149 : decode cX56_look 149 = .ok (.iconst 0, 1) := by decide +kernel
theorem dX56_look_150 : decode cX56_look 150 = .ok (.istore 4, 2) := by decide +kernel
theorem dX56_look_152 : decode cX56_look 152 = .ok (.iload 4, 2) := by decide +kernel
theorem dX56_look_154 : decode cX56_look 154 = .ok (.aload_n 0, 1) := by decide +kernel
theorem dX56_look_155 : decode cX56_look 155 = .ok (.getfield 100, 3) := by decide +kernel
theorem dX56_look_158 : decode cX56_look 158 = .ok (.if_icmp .ge 46, 3) := by decide +kernel
theorem dX56_look_161 : decode cX56_look 161 = .ok (.aload_n 0, 1) := by decide +kernel
theorem dX56_look_162 : decode cX56_look 162 = .ok (.getfield 7, 3) := by decide +kernel
theorem dX56_look_165 : decode cX56_look 165 = .ok (.iload 4, 2) := by decide +kernel
theorem dX56_look_167 : decode cX56_look 167 = .ok (.iaload, 1) := by decide +kernel
theorem dX56_look_168 : decode cX56_look 168 = .ok (.ifCond .ne 11, 3) := by decide +kernel
theorem dX56_look_171 : decode cX56_look 171 = .ok (.aload_n 0, 1) := by decide +kernel
theorem dX56_look_172 : decode cX56_look 172 = .ok (.iload_n 2, 1) := by decide +kernel
theorem dX56_look_173 : decode cX56_look 173 = .ok (.iload_n 3, 1) := by decide +kernel
theorem dX56_look_174 : decode cX56_look 174 = .ok (.iload 4, 2) := by decide +kernel
theorem dX56_look_176 : decode cX56_look 176 = .ok (.invokevirtual 196, 3) := by decide +kernel
theorem dX56_look_179 : decode cX56_look 179 = .ok (.aload_n 0, 1) := by decide +kernel
theorem dX56_look_180 : decode cX56_look 180 = .ok (.getfield 7, 3) := by decide +kernel
theorem dX56_look_183 : decode cX56_look 183 = .ok (.iload 4, 2) := by decide +kernel
theorem dX56_look_185 : decode cX56_look 185 = .ok (.iaload, 1) := by decide +kernel
theorem dX56_look_186 : decode cX56_look 186 = .ok (.iconst 1, 1) := by decide +kernel
theorem dX56_look_187 : decode cX56_look 187 = .ok (.if_icmp .ne 11, 3) := by decide +kernel
theorem dX56_look_190 : decode cX56_look 190 = .ok (.aload_n 0, 1) := by decide +kernel
theorem dX56_look_191 : decode cX56_look 191 = .ok (.iload_n 2, 1) := by decide +kernel
theorem dX56_look_192 : decode cX56_look 192 = .ok (.iload_n 3, 1) := by decide +kernel
theorem dX56_look_193 : decode cX56_look 193 = .ok (.iload 4, 2) := by decide +kernel
theorem dX56_look_195 : decode cX56_look 195 = .ok (.invokevirtual 199, 3) := by decide +kernel
theorem dX56_look_198 : decode cX56_look 198 = .ok (.iinc 4 1, 3) := by decide +kernel
theorem dX56_look_201 : decode cX56_look 201 = .ok (.goto (-49), 3) := by decide +kernel
theorem dX56_look_204 : decode cX56_look 204 = .ok (.iinc 3 1, 3) := by decide +kernel
theorem dX56_look_207 : decode cX56_look 207 = .ok (.goto (-68), 3) := by decide +kernel
theorem dX56_look_210 : decode cX56_look 210 = .ok (.iconst 0, 1) := by decide +kernel
theorem dX56_look_211 : decode cX56_look 211 = .ok (.istore_n 3, 1) := by decide +kernel
theorem dX56_look_212 : decode cX56_look 212 = .ok (.iload_n 3, 1) := by decide +kernel
theorem dX56_look_213 : decode cX56_look 213 = .ok (.aload_n 0, 1) := by decide +kernel
theorem dX56_look_214 : decode cX56_look 214 = .ok (.getfield 61, 3) := by decide +kernel
theorem dX56_look_217 : decode cX56_look 217 = .ok (.iload_n 2, 1) := by decide +kernel
theorem dX56_look_218 : decode cX56_look 218 = .ok (.iaload, 1) := by decide +kernel
theorem dX56_look_219 : decode cX56_look 219 = .ok (.if_icmp .ge 39, 3) := by decide +kernel
theorem dX56_look_222 : decode cX56_look 222 = .ok (.iload_n 3, 1) := by decide +kernel
theorem dX56_look_223 : decode cX56_look 223 = .ok (.iconst 1, 1) := by decide +kernel
theorem dX56_look_224 : decode cX56_look 224 = .ok (.iadd, 1) := by decide +kernel
theorem dX56_look_225 : decode cX56_look 225 = .ok (.istore 4, 2) := by decide +kernel
theorem dX56_look_227 : decode cX56_look 227 = .ok (.iload 4, 2) := by decide +kernel
theorem dX56_look_229 : decode cX56_look 229 = .ok (.aload_n 0, 1) := by decide +kernel
theorem dX56_look_230 : decode cX56_look 230 = .ok (.getfield 61, 3) := by decide +kernel
theorem dX56_look_233 : decode cX56_look 233 = .ok (.iload_n 2, 1) := by decide +kernel
theorem dX56_look_234 : decode cX56_look 234 = .ok (.iaload, 1) := by decide +kernel
theorem dX56_look_235 : decode cX56_look 235 = .ok (.if_icmp .ge 17, 3) := by decide +kernel
theorem dX56_look_238 : decode cX56_look 238 = .ok (.aload_n 0, 1) := by decide +kernel
theorem dX56_look_239 : decode cX56_look 239 = .ok (.iload_n 2, 1) := by decide +kernel
theorem dX56_look_240 : decode cX56_look 240 = .ok (.iload_n 3, 1) := by decide +kernel
theorem dX56_look_241 : decode cX56_look 241 = .ok (.iload 4, 2) := by decide +kernel
theorem dX56_look_243 : decode cX56_look 243 = .ok (.invokevirtual 202, 3) := by decide +kernel
theorem dX56_look_246 : decode cX56_look 246 = .ok (.iinc 4 1, 3) := by decide +kernel
theorem dX56_look_249 : decode cX56_look 249 = .ok (.goto (-22), 3) := by decide +kernel
theorem dX56_look_252 : decode cX56_look 252 = .ok (.iinc 3 1, 3) := by decide +kernel
theorem dX56_look_255 : decode cX56_look 255 = .ok (.goto (-43), 3) := by decide +kernel
theorem dX56_look_258 : decode cX56_look 258 = .ok (.iinc 2 1, 3) := by decide +kernel
theorem dX56_look_261 : decode cX56_look 261 = .ok (.goto (-139), 3) := by decide +kernel
theorem dX56_look_264 : decode cX56_look 264 = .ok (.return_, 1) := by decide +kernel
abbrev cX56_begin : ByteArray := prog_86_method_13_code
def yX56_begin : MethodName := ⟨RX56, "begin", "(II)V"⟩
theorem dX56_begin_0 : decode cX56_begin 0 = .ok (.aload_n 0, 1) := by decide +kernel
theorem dX56_begin_1 : decode cX56_begin 1 = .ok (.iload_n 1, 1) := by decide +kernel
theorem dX56_begin_2 : decode cX56_begin 2 = .ok (.putfield 128, 3) := by decide +kernel
theorem dX56_begin_5 : decode cX56_begin 5 = .ok (.aload_n 0, 1) := by decide +kernel
theorem dX56_begin_6 : decode cX56_begin 6 = .ok (.iload_n 2, 1) := by decide +kernel
theorem dX56_begin_7 : decode cX56_begin 7 = .ok (.putfield 131, 3) := by decide +kernel
theorem dX56_begin_10 : decode cX56_begin 10 = .ok (.aload_n 0, 1) := by decide +kernel
theorem dX56_begin_11 : decode cX56_begin 11 = .ok (.iconst 0, 1) := by decide +kernel
theorem dX56_begin_12 : decode cX56_begin 12 = .ok (.putfield 134, 3) := by decide +kernel
theorem dX56_begin_15 : decode cX56_begin 15 = .ok (.return_, 1) := by decide +kernel
abbrev cX56_add : ByteArray := prog_86_method_14_code
def yX56_add : MethodName := ⟨RX56, "add", "(III)V"⟩
theorem dX56_add_0 : decode cX56_add 0 = .ok (.aload_n 0, 1) := by decide +kernel
theorem dX56_add_1 : decode cX56_add 1 = .ok (.getfield 43, 3) := by decide +kernel
theorem dX56_add_4 : decode cX56_add 4 = .ok (.aload_n 0, 1) := by decide +kernel
theorem dX56_add_5 : decode cX56_add 5 = .ok (.getfield 134, 3) := by decide +kernel
theorem dX56_add_8 : decode cX56_add 8 = .ok (.iload_n 1, 1) := by decide +kernel
theorem dX56_add_9 : decode cX56_add 9 = .ok (.iastore, 1) := by decide +kernel
theorem dX56_add_10 : decode cX56_add 10 = .ok (.aload_n 0, 1) := by decide +kernel
theorem dX56_add_11 : decode cX56_add 11 = .ok (.getfield 46, 3) := by decide +kernel
theorem dX56_add_14 : decode cX56_add 14 = .ok (.aload_n 0, 1) := by decide +kernel
theorem dX56_add_15 : decode cX56_add 15 = .ok (.getfield 134, 3) := by decide +kernel
theorem dX56_add_18 : decode cX56_add 18 = .ok (.iload_n 2, 1) := by decide +kernel
theorem dX56_add_19 : decode cX56_add 19 = .ok (.iastore, 1) := by decide +kernel
theorem dX56_add_20 : decode cX56_add 20 = .ok (.aload_n 0, 1) := by decide +kernel
theorem dX56_add_21 : decode cX56_add 21 = .ok (.getfield 49, 3) := by decide +kernel
theorem dX56_add_24 : decode cX56_add 24 = .ok (.aload_n 0, 1) := by decide +kernel
theorem dX56_add_25 : decode cX56_add 25 = .ok (.getfield 134, 3) := by decide +kernel
theorem dX56_add_28 : decode cX56_add 28 = .ok (.iload_n 3, 1) := by decide +kernel
theorem dX56_add_29 : decode cX56_add 29 = .ok (.iastore, 1) := by decide +kernel
theorem dX56_add_30 : decode cX56_add 30 = .ok (.aload_n 0, 1) := by decide +kernel
theorem dX56_add_31 : decode cX56_add 31 = .ok (.dup, 1) := by decide +kernel
theorem dX56_add_32 : decode cX56_add 32 = .ok (.getfield 134, 3) := by decide +kernel
theorem dX56_add_35 : decode cX56_add 35 = .ok (.iconst 1, 1) := by decide +kernel
theorem dX56_add_36 : decode cX56_add 36 = .ok (.iadd, 1) := by decide +kernel
theorem dX56_add_37 : decode cX56_add 37 = .ok (.putfield 134, 3) := by decide +kernel
theorem dX56_add_40 : decode cX56_add 40 = .ok (.return_, 1) := by decide +kernel
abbrev cX56_finish : ByteArray := prog_86_method_24_code
def yX56_finish : MethodName := ⟨RX56, "finish", "()V"⟩
theorem dX56_finish_0 : decode cX56_finish 0 = .ok (.aload_n 0, 1) := by decide +kernel
theorem dX56_finish_1 : decode cX56_finish 1 = .ok (.invokevirtual 158, 3) := by decide +kernel
theorem dX56_finish_4 : decode cX56_finish 4 = .ok (.aload_n 0, 1) := by decide +kernel
theorem dX56_finish_5 : decode cX56_finish 5 = .ok (.iconst 0, 1) := by decide +kernel
theorem dX56_finish_6 : decode cX56_finish 6 = .ok (.putfield 155, 3) := by decide +kernel
theorem dX56_finish_9 : decode cX56_finish 9 = .ok (.iconst 0, 1) := by decide +kernel
theorem dX56_finish_10 : decode cX56_finish 10 = .ok (.istore_n 1, 1) := by decide +kernel
theorem dX56_finish_11 : decode cX56_finish 11 = .ok (.iload_n 1, 1) := by decide +kernel
theorem dX56_finish_12 : decode cX56_finish 12 = .ok (.aload_n 0, 1) := by decide +kernel
theorem dX56_finish_13 : decode cX56_finish 13 = .ok (.getfield 134, 3) := by decide +kernel
theorem dX56_finish_16 : decode cX56_finish 16 = .ok (.if_icmp .ge 29, 3) := by decide +kernel
theorem dX56_finish_19 : decode cX56_finish 19 = .ok (.aload_n 0, 1) := by decide +kernel
theorem dX56_finish_20 : decode cX56_finish 20 = .ok (.aload_n 0, 1) := by decide +kernel
theorem dX56_finish_21 : decode cX56_finish 21 = .ok (.getfield 46, 3) := by decide +kernel
theorem dX56_finish_24 : decode cX56_finish 24 = .ok (.iload_n 1, 1) := by decide +kernel
theorem dX56_finish_25 : decode cX56_finish 25 = .ok (.iaload, 1) := by decide +kernel
theorem dX56_finish_26 : decode cX56_finish 26 = .ok (.invokevirtual 161, 3) := by decide +kernel
theorem dX56_finish_29 : decode cX56_finish 29 = .ok (.aload_n 0, 1) := by decide +kernel
theorem dX56_finish_30 : decode cX56_finish 30 = .ok (.aload_n 0, 1) := by decide +kernel
theorem dX56_finish_31 : decode cX56_finish 31 = .ok (.getfield 49, 3) := by decide +kernel
theorem dX56_finish_34 : decode cX56_finish 34 = .ok (.iload_n 1, 1) := by decide +kernel
theorem dX56_finish_35 : decode cX56_finish 35 = .ok (.iaload, 1) := by decide +kernel
theorem dX56_finish_36 : decode cX56_finish 36 = .ok (.invokevirtual 161, 3) := by decide +kernel
theorem dX56_finish_39 : decode cX56_finish 39 = .ok (.iinc 1 1, 3) := by decide +kernel
theorem dX56_finish_42 : decode cX56_finish 42 = .ok (.goto (-31), 3) := by decide +kernel
theorem dX56_finish_45 : decode cX56_finish 45 = .ok (.iconst 0, 1) := by decide +kernel
theorem dX56_finish_46 : decode cX56_finish 46 = .ok (.istore_n 1, 1) := by decide +kernel
theorem dX56_finish_47 : decode cX56_finish 47 = .ok (.iconst 0, 1) := by decide +kernel
theorem dX56_finish_48 : decode cX56_finish 48 = .ok (.istore_n 2, 1) := by decide +kernel
theorem dX56_finish_49 : decode cX56_finish 49 = .ok (.iload_n 2, 1) := by decide +kernel
theorem dX56_finish_50 : decode cX56_finish 50 = .ok (.iconst 1, 1) := by decide +kernel
theorem dX56_finish_51 : decode cX56_finish 51 = .ok (.iconst 2, 1) := by decide +kernel
theorem dX56_finish_52 : decode cX56_finish 52 = .ok (.aload_n 0, 1) := by decide +kernel
theorem dX56_finish_53 : decode cX56_finish 53 = .ok (.getfield 155, 3) := by decide +kernel
theorem dX56_finish_56 : decode cX56_finish 56 = .ok (.imul, 1) := by decide +kernel
theorem dX56_finish_57 : decode cX56_finish 57 = .ok (.ishl, 1) := by decide +kernel
theorem dX56_finish_58 : decode cX56_finish 58 = .ok (.if_icmp .ge 190, 3) := by decide +kernel
theorem dX56_finish_61 : decode cX56_finish 61 = .ok (.aload_n 0, 1) := by decide +kernel
theorem dX56_finish_62 : decode cX56_finish 62 = .ok (.iload_n 2, 1) := by decide +kernel
theorem dX56_finish_63 : decode cX56_finish 63 = .ok (.invokevirtual 165, 3) := by decide +kernel
theorem dX56_finish_66 : decode cX56_finish 66 = .ok (.ifCond .ne 6, 3) := by decide +kernel
theorem dX56_finish_69 : decode cX56_finish 69 = .ok (.goto 173, 3) := by decide +kernel
theorem dX56_finish_72 : decode cX56_finish 72 = .ok (.iconst 0, 1) := by decide +kernel
theorem dX56_finish_73 : decode cX56_finish 73 = .ok (.istore_n 3, 1) := by decide +kernel
theorem dX56_finish_74 : decode cX56_finish 74 = .ok (.iload_n 3, 1) := by decide +kernel
theorem dX56_finish_75 : decode cX56_finish 75 = .ok (.aload_n 0, 1) := by decide +kernel
theorem dX56_finish_76 : decode cX56_finish 76 = .ok (.getfield 134, 3) := by decide +kernel
theorem dX56_finish_79 : decode cX56_finish 79 = .ok (.if_icmp .ge 51, 3) := by decide +kernel
theorem dX56_finish_82 : decode cX56_finish 82 = .ok (.aload_n 0, 1) := by decide +kernel
theorem dX56_finish_83 : decode cX56_finish 83 = .ok (.getfield 52, 3) := by decide +kernel
theorem dX56_finish_86 : decode cX56_finish 86 = .ok (.iload_n 3, 1) := by decide +kernel
theorem dX56_finish_87 : decode cX56_finish 87 = .ok (.bipush 64, 2) := by decide +kernel
theorem dX56_finish_89 : decode cX56_finish 89 = .ok (.aload_n 0, 1) := by decide +kernel
theorem dX56_finish_90 : decode cX56_finish 90 = .ok (.getfield 43, 3) := by decide +kernel
theorem dX56_finish_93 : decode cX56_finish 93 = .ok (.iload_n 3, 1) := by decide +kernel
theorem dX56_finish_94 : decode cX56_finish 94 = .ok (.iaload, 1) := by decide +kernel
theorem dX56_finish_95 : decode cX56_finish 95 = .ok (.imul, 1) := by decide +kernel
theorem dX56_finish_96 : decode cX56_finish 96 = .ok (.bipush 8, 2) := by decide +kernel
theorem dX56_finish_98 : decode cX56_finish 98 = .ok (.aload_n 0, 1) := by decide +kernel
theorem dX56_finish_99 : decode cX56_finish 99 = .ok (.aload_n 0, 1) := by decide +kernel
theorem dX56_finish_100 : decode cX56_finish 100 = .ok (.getfield 46, 3) := by decide +kernel
theorem dX56_finish_103 : decode cX56_finish 103 = .ok (.iload_n 3, 1) := by decide +kernel
theorem dX56_finish_104 : decode cX56_finish 104 = .ok (.iaload, 1) := by decide +kernel
theorem dX56_finish_105 : decode cX56_finish 105 = .ok (.iload_n 2, 1) := by decide +kernel
theorem dX56_finish_106 : decode cX56_finish 106 = .ok (.invokevirtual 168, 3) := by decide +kernel
theorem dX56_finish_109 : decode cX56_finish 109 = .ok (.imul, 1) := by decide +kernel
theorem dX56_finish_110 : decode cX56_finish 110 = .ok (.iadd, 1) := by decide +kernel
theorem dX56_finish_111 : decode cX56_finish 111 = .ok (.aload_n 0, 1) := by decide +kernel
theorem dX56_finish_112 : decode cX56_finish 112 = .ok (.aload_n 0, 1) := by decide +kernel
theorem dX56_finish_113 : decode cX56_finish 113 = .ok (.getfield 49, 3) := by decide +kernel
theorem dX56_finish_116 : decode cX56_finish 116 = .ok (.iload_n 3, 1) := by decide +kernel
theorem dX56_finish_117 : decode cX56_finish 117 = .ok (.iaload, 1) := by decide +kernel
theorem dX56_finish_118 : decode cX56_finish 118 = .ok (.iload_n 2, 1) := by decide +kernel
theorem dX56_finish_119 : decode cX56_finish 119 = .ok (.invokevirtual 168, 3) := by decide +kernel
theorem dX56_finish_122 : decode cX56_finish 122 = .ok (.iadd, 1) := by decide +kernel
theorem dX56_finish_123 : decode cX56_finish 123 = .ok (.iastore, 1) := by decide +kernel
theorem dX56_finish_124 : decode cX56_finish 124 = .ok (.iinc 3 1, 3) := by decide +kernel
theorem dX56_finish_127 : decode cX56_finish 127 = .ok (.goto (-53), 3) := by decide +kernel
theorem dX56_finish_130 : decode cX56_finish 130 = .ok (.aload_n 0, 1) := by decide +kernel
theorem dX56_finish_131 : decode cX56_finish 131 = .ok (.invokevirtual 172, 3) := by decide +kernel
theorem dX56_finish_134 : decode cX56_finish 134 = .ok (.iconst 0, 1) := by decide +kernel
theorem dX56_finish_135 : decode cX56_finish 135 = .ok (.istore_n 3, 1) := by decide +kernel
theorem dX56_finish_136 : decode cX56_finish 136 = .ok (.iload_n 1, 1) := by decide +kernel
theorem dX56_finish_137 : decode cX56_finish 137 = .ok (.ifCond .eq 32, 3) := by decide +kernel
theorem dX56_finish_140 : decode cX56_finish 140 = .ok (.iload_n 3, 1) := by decide +kernel
theorem dX56_finish_141 : decode cX56_finish 141 = .ok (.aload_n 0, 1) := by decide +kernel
theorem dX56_finish_142 : decode cX56_finish 142 = .ok (.getfield 134, 3) := by decide +kernel
theorem dX56_finish_145 : decode cX56_finish 145 = .ok (.if_icmp .ge 24, 3) := by decide +kernel
theorem dX56_finish_148 : decode cX56_finish 148 = .ok (.aload_n 0, 1) := by decide +kernel
theorem dX56_finish_149 : decode cX56_finish 149 = .ok (.getfield 52, 3) := by decide +kernel
theorem dX56_finish_152 : decode cX56_finish 152 = .ok (.iload_n 3, 1) := by decide +kernel
theorem dX56_finish_153 : decode cX56_finish 153 = .ok (.iaload, 1) := by decide +kernel
theorem dX56_finish_154 : decode cX56_finish 154 = .ok (.aload_n 0, 1) := by decide +kernel
theorem dX56_finish_155 : decode cX56_finish 155 = .ok (.getfield 55, 3) := by decide +kernel
theorem dX56_finish_158 : decode cX56_finish 158 = .ok (.iload_n 3, 1) := by decide +kernel
theorem dX56_finish_159 : decode cX56_finish 159 = .ok (.iaload, 1) := by decide +kernel
theorem dX56_finish_160 : decode cX56_finish 160 = .ok (.if_icmp .ne 9, 3) := by decide +kernel
theorem dX56_finish_163 : decode cX56_finish 163 = .ok (.iinc 3 1, 3) := by decide +kernel
theorem dX56_finish_166 : decode cX56_finish 166 = .ok (.goto (-30), 3) := by decide +kernel
theorem dX56_finish_169 : decode cX56_finish 169 = .ok (.iload_n 1, 1) := by decide +kernel
theorem dX56_finish_170 : decode cX56_finish 170 = .ok (.ifCond .eq 26, 3) := by decide +kernel
theorem dX56_finish_173 : decode cX56_finish 173 = .ok (.iload_n 3, 1) := by decide +kernel
theorem dX56_finish_174 : decode cX56_finish 174 = .ok (.aload_n 0, 1) := by decide +kernel
theorem dX56_finish_175 : decode cX56_finish 175 = .ok (.getfield 134, 3) := by decide +kernel
theorem dX56_finish_178 : decode cX56_finish 178 = .ok (.if_icmp .ge 22, 3) := by decide +kernel
theorem dX56_finish_181 : decode cX56_finish 181 = .ok (.aload_n 0, 1) := by decide +kernel
theorem dX56_finish_182 : decode cX56_finish 182 = .ok (.getfield 52, 3) := by decide +kernel
theorem dX56_finish_185 : decode cX56_finish 185 = .ok (.iload_n 3, 1) := by decide +kernel
theorem dX56_finish_186 : decode cX56_finish 186 = .ok (.iaload, 1) := by decide +kernel
theorem dX56_finish_187 : decode cX56_finish 187 = .ok (.aload_n 0, 1) := by decide +kernel
theorem dX56_finish_188 : decode cX56_finish 188 = .ok (.getfield 55, 3) := by decide +kernel
theorem dX56_finish_191 : decode cX56_finish 191 = .ok (.iload_n 3, 1) := by decide +kernel
theorem dX56_finish_192 : decode cX56_finish 192 = .ok (.iaload, 1) := by decide +kernel
theorem dX56_finish_193 : decode cX56_finish 193 = .ok (.if_icmp .ge 7, 3) := by decide +kernel
theorem dX56_finish_196 : decode cX56_finish 196 = .ok (.iconst 1, 1) := by decide +kernel
theorem dX56_finish_197 : decode cX56_finish 197 = .ok (.goto 4, 3) := by decide +kernel
theorem dX56_finish_200 : decode cX56_finish 200 = .ok (.iconst 0, 1) := by decide +kernel
theorem dX56_finish_201 : decode cX56_finish 201 = .ok (.istore 4, 2) := by decide +kernel
theorem dX56_finish_203 : decode cX56_finish 203 = .ok (.iconst 0, 1) := by decide +kernel
theorem dX56_finish_204 : decode cX56_finish 204 = .ok (.istore 5, 2) := by decide +kernel
theorem dX56_finish_206 : decode cX56_finish 206 = .ok (.iload 5, 2) := by decide +kernel
theorem dX56_finish_208 : decode cX56_finish 208 = .ok (.aload_n 0, 1) := by decide +kernel
theorem dX56_finish_209 : decode cX56_finish 209 = .ok (.getfield 134, 3) := by decide +kernel
theorem dX56_finish_212 : decode cX56_finish 212 = .ok (.if_icmp .ge 28, 3) := by decide +kernel
theorem dX56_finish_215 : decode cX56_finish 215 = .ok (.iload 4, 2) := by decide +kernel
theorem dX56_finish_217 : decode cX56_finish 217 = .ok (.ifCond .eq 23, 3) := by decide +kernel
theorem dX56_finish_220 : decode cX56_finish 220 = .ok (.aload_n 0, 1) := by decide +kernel
theorem dX56_finish_221 : decode cX56_finish 221 = .ok (.getfield 55, 3) := by decide +kernel
theorem dX56_finish_224 : decode cX56_finish 224 = .ok (.iload 5, 2) := by decide +kernel
theorem dX56_finish_226 : decode cX56_finish 226 = .ok (.aload_n 0, 1) := by decide +kernel
theorem dX56_finish_227 : decode cX56_finish 227 = .ok (.getfield 52, 3) := by decide +kernel
theorem dX56_finish_230 : decode cX56_finish 230 = .ok (.iload 5, 2) := by decide +kernel
theorem dX56_finish_232 : decode cX56_finish 232 = .ok (.iaload, 1) := by decide +kernel
theorem dX56_finish_233 : decode cX56_finish 233 = .ok (.iastore, 1) := by decide +kernel
theorem dX56_finish_234 : decode cX56_finish 234 = .ok (.iinc 5 1, 3) := by decide +kernel
theorem dX56_finish_237 : decode cX56_finish 237 = .ok (.goto (-31), 3) := by decide +kernel
theorem dX56_finish_240 : decode cX56_finish 240 = .ok (.iconst 1, 1) := by decide +kernel
theorem dX56_finish_241 : decode cX56_finish 241 = .ok (.istore_n 1, 1) := by decide +kernel
theorem dX56_finish_242 : decode cX56_finish 242 = .ok (.iinc 2 1, 3) := by decide +kernel
theorem dX56_finish_245 : decode cX56_finish 245 = .ok (.goto (-196), 3) := by decide +kernel
theorem dX56_finish_248 : decode cX56_finish 248 = .ok (.aload_n 0, 1) := by decide +kernel
theorem dX56_finish_249 : decode cX56_finish 249 = .ok (.getfield 131, 3) := by decide +kernel
theorem dX56_finish_252 : decode cX56_finish 252 = .ok (.ifCond .ge 7, 3) := by decide +kernel
theorem dX56_finish_255 : decode cX56_finish 255 = .ok (.iconst (-1), 1) := by decide +kernel
theorem dX56_finish_256 : decode cX56_finish 256 = .ok (.goto 19, 3) := by decide +kernel
theorem dX56_finish_259 : decode cX56_finish 259 = .ok (.aload_n 0, 1) := by decide +kernel
theorem dX56_finish_260 : decode cX56_finish 260 = .ok (.getfield 131, 3) := by decide +kernel
theorem dX56_finish_263 : decode cX56_finish 263 = .ok (.aload_n 0, 1) := by decide +kernel
theorem dX56_finish_264 : decode cX56_finish 264 = .ok (.getfield 128, 3) := by decide +kernel
theorem dX56_finish_267 : decode cX56_finish 267 = .ok (.if_icmp .ne 7, 3) := by decide +kernel
theorem dX56_finish_270 : decode cX56_finish 270 = .ok (.iconst 0, 1) := by decide +kernel
theorem dX56_finish_271 : decode cX56_finish 271 = .ok (.goto 4, 3) := by decide +kernel
theorem dX56_finish_274 : decode cX56_finish 274 = .ok (.iconst 1, 1) := by decide +kernel
theorem dX56_finish_275 : decode cX56_finish 275 = .ok (.istore_n 2, 1) := by decide +kernel
theorem dX56_finish_276 : decode cX56_finish 276 = .ok (.aload_n 0, 1) := by decide +kernel
theorem dX56_finish_277 : decode cX56_finish 277 = .ok (.getfield 128, 3) := by decide +kernel
theorem dX56_finish_280 : decode cX56_finish 280 = .ok (.ifCond .ge 7, 3) := by decide +kernel
theorem dX56_finish_283 : decode cX56_finish 283 = .ok (.iconst (-1), 1) := by decide +kernel
theorem dX56_finish_284 : decode cX56_finish 284 = .ok (.goto 4, 3) := by decide +kernel
theorem dX56_finish_287 : decode cX56_finish 287 = .ok (.iconst 0, 1) := by decide +kernel
theorem dX56_finish_288 : decode cX56_finish 288 = .ok (.istore_n 3, 1) := by decide +kernel
theorem dX56_finish_289 : decode cX56_finish 289 = .ok (.aload_n 0, 1) := by decide +kernel
theorem dX56_finish_290 : decode cX56_finish 290 = .ok (.iload_n 3, 1) := by decide +kernel
theorem dX56_finish_291 : decode cX56_finish 291 = .ok (.iload_n 2, 1) := by decide +kernel
theorem dX56_finish_292 : decode cX56_finish 292 = .ok (.invokevirtual 175, 3) := by decide +kernel
theorem dX56_finish_295 : decode cX56_finish 295 = .ok (.ifCond .ne 9, 3) := by decide +kernel
theorem dX56_finish_298 : decode cX56_finish 298 = .ok (.aload_n 0, 1) := by decide +kernel
theorem dX56_finish_299 : decode cX56_finish 299 = .ok (.iload_n 3, 1) := by decide +kernel
theorem dX56_finish_300 : decode cX56_finish 300 = .ok (.iload_n 2, 1) := by decide +kernel
theorem dX56_finish_301 : decode cX56_finish 301 = .ok (.invokevirtual 178, 3) := by decide +kernel
theorem dX56_finish_304 : decode cX56_finish 304 = .ok (.return_, 1) := by decide +kernel
abbrev cX56_thin : ByteArray := prog_86_method_19_code
def yX56_thin : MethodName := ⟨RX56, "thin", "()V"⟩
theorem dX56_thin_0 : decode cX56_thin 0 = .ok (.iconst 1, 1) := by decide +kernel
theorem dX56_thin_1 : decode cX56_thin 1 = .ok (.istore_n 1, 1) := by decide +kernel
theorem dX56_thin_2 : decode cX56_thin 2 = .ok (.iload_n 1, 1) := by decide +kernel
theorem dX56_thin_3 : decode cX56_thin 3 = .ok (.ifCond .eq 133, 3) := by decide +kernel
theorem dX56_thin_6 : decode cX56_thin 6 = .ok (.iconst 0, 1) := by decide +kernel
theorem dX56_thin_7 : decode cX56_thin 7 = .ok (.istore_n 1, 1) := by decide +kernel
theorem dX56_thin_8 : decode cX56_thin 8 = .ok (.iconst 0, 1) := by decide +kernel
theorem dX56_thin_9 : decode cX56_thin 9 = .ok (.istore_n 2, 1) := by decide +kernel
theorem dX56_thin_10 : decode cX56_thin 10 = .ok (.iload_n 2, 1) := by decide +kernel
theorem dX56_thin_11 : decode cX56_thin 11 = .ok (.aload_n 0, 1) := by decide +kernel
theorem dX56_thin_12 : decode cX56_thin 12 = .ok (.getfield 134, 3) := by decide +kernel
theorem dX56_thin_15 : decode cX56_thin 15 = .ok (.if_icmp .ge 83, 3) := by decide +kernel
theorem dX56_thin_18 : decode cX56_thin 18 = .ok (.aload_n 0, 1) := by decide +kernel
theorem dX56_thin_19 : decode cX56_thin 19 = .ok (.aload_n 0, 1) := by decide +kernel
theorem dX56_thin_20 : decode cX56_thin 20 = .ok (.getfield 46, 3) := by decide +kernel
theorem dX56_thin_23 : decode cX56_thin 23 = .ok (.iload_n 2, 1) := by decide +kernel
theorem dX56_thin_24 : decode cX56_thin 24 = .ok (.iaload, 1) := by decide +kernel
theorem dX56_thin_25 : decode cX56_thin 25 = .ok (.invokevirtual 145, 3) := by decide +kernel
theorem dX56_thin_28 : decode cX56_thin 28 = .ok (.ifCond .eq 27, 3) := by decide +kernel
theorem dX56_thin_31 : decode cX56_thin 31 = .ok (.aload_n 0, 1) := by decide +kernel
theorem dX56_thin_32 : decode cX56_thin 32 = .ok (.aload_n 0, 1) := by decide +kernel
theorem dX56_thin_33 : decode cX56_thin 33 = .ok (.getfield 46, 3) := by decide +kernel
theorem dX56_thin_36 : decode cX56_thin 36 = .ok (.iload_n 2, 1) := by decide +kernel
theorem dX56_thin_37 : decode cX56_thin 37 = .ok (.iaload, 1) := by decide +kernel
theorem dX56_thin_38 : decode cX56_thin 38 = .ok (.invokevirtual 148, 3) := by decide +kernel
theorem dX56_thin_41 : decode cX56_thin 41 = .ok (.iconst 1, 1) := by decide +kernel
theorem dX56_thin_42 : decode cX56_thin 42 = .ok (.if_icmp .ne 13, 3) := by decide +kernel
theorem dX56_thin_45 : decode cX56_thin 45 = .ok (.aload_n 0, 1) := by decide +kernel
theorem dX56_thin_46 : decode cX56_thin 46 = .ok (.getfield 46, 3) := by decide +kernel
theorem dX56_thin_49 : decode cX56_thin 49 = .ok (.iload_n 2, 1) := by decide +kernel
theorem dX56_thin_50 : decode cX56_thin 50 = .ok (.bipush 6, 2) := by decide +kernel
theorem dX56_thin_52 : decode cX56_thin 52 = .ok (.iastore, 1) := by decide +kernel
theorem dX56_thin_53 : decode cX56_thin 53 = .ok (.iconst 1, 1) := by decide +kernel
theorem dX56_thin_54 : decode cX56_thin 54 = .ok (.istore_n 1, 1) := by decide +kernel
theorem dX56_thin_55 : decode cX56_thin 55 = .ok (.aload_n 0, 1) := by decide +kernel
theorem dX56_thin_56 : decode cX56_thin 56 = .ok (.aload_n 0, 1) := by decide +kernel
theorem dX56_thin_57 : decode cX56_thin 57 = .ok (.getfield 49, 3) := by decide +kernel
theorem dX56_thin_60 : decode cX56_thin 60 = .ok (.iload_n 2, 1) := by decide +kernel
theorem dX56_thin_61 : decode cX56_thin 61 = .ok (.iaload, 1) := by decide +kernel
theorem dX56_thin_62 : decode cX56_thin 62 = .ok (.invokevirtual 145, 3) := by decide +kernel
theorem dX56_thin_65 : decode cX56_thin 65 = .ok (.ifCond .eq 27, 3) := by decide +kernel
theorem dX56_thin_68 : decode cX56_thin 68 = .ok (.aload_n 0, 1) := by decide +kernel
theorem dX56_thin_69 : decode cX56_thin 69 = .ok (.aload_n 0, 1) := by decide +kernel
theorem dX56_thin_70 : decode cX56_thin 70 = .ok (.getfield 49, 3) := by decide +kernel
theorem dX56_thin_73 : decode cX56_thin 73 = .ok (.iload_n 2, 1) := by decide +kernel
theorem dX56_thin_74 : decode cX56_thin 74 = .ok (.iaload, 1) := by decide +kernel
theorem dX56_thin_75 : decode cX56_thin 75 = .ok (.invokevirtual 148, 3) := by decide +kernel
theorem dX56_thin_78 : decode cX56_thin 78 = .ok (.iconst 1, 1) := by decide +kernel
theorem dX56_thin_79 : decode cX56_thin 79 = .ok (.if_icmp .ne 13, 3) := by decide +kernel
theorem dX56_thin_82 : decode cX56_thin 82 = .ok (.aload_n 0, 1) := by decide +kernel
theorem dX56_thin_83 : decode cX56_thin 83 = .ok (.getfield 49, 3) := by decide +kernel
theorem dX56_thin_86 : decode cX56_thin 86 = .ok (.iload_n 2, 1) := by decide +kernel
theorem dX56_thin_87 : decode cX56_thin 87 = .ok (.bipush 6, 2) := by decide +kernel
theorem dX56_thin_89 : decode cX56_thin 89 = .ok (.iastore, 1) := by decide +kernel
theorem dX56_thin_90 : decode cX56_thin 90 = .ok (.iconst 1, 1) := by decide +kernel
theorem dX56_thin_91 : decode cX56_thin 91 = .ok (.istore_n 1, 1) := by decide +kernel
theorem dX56_thin_92 : decode cX56_thin 92 = .ok (.iinc 2 1, 3) := by decide +kernel
theorem dX56_thin_95 : decode cX56_thin 95 = .ok (.goto (-85), 3) := by decide +kernel
theorem dX56_thin_98 : decode cX56_thin 98 = .ok (.aload_n 0, 1) := by decide +kernel
theorem dX56_thin_99 : decode cX56_thin 99 = .ok (.getfield 134, 3) := by decide +kernel
theorem dX56_thin_102 : decode cX56_thin 102 = .ok (.iconst 1, 1) := by decide +kernel
theorem dX56_thin_103 : decode cX56_thin 103 = .ok (.isub, 1) := by decide +kernel
theorem dX56_thin_104 : decode cX56_thin 104 = .ok (.istore_n 2, 1) := by decide +kernel
theorem dX56_thin_105 : decode cX56_thin 105 = .ok (.iload_n 2, 1) := by decide +kernel
theorem dX56_thin_106 : decode cX56_thin 106 = .ok (.ifCond .le 27, 3) := by decide +kernel
theorem dX56_thin_109 : decode cX56_thin 109 = .ok (.aload_n 0, 1) := by decide +kernel
theorem dX56_thin_110 : decode cX56_thin 110 = .ok (.iload_n 2, 1) := by decide +kernel
theorem dX56_thin_111 : decode cX56_thin 111 = .ok (.invokevirtual 152, 3) := by decide +kernel
theorem dX56_thin_114 : decode cX56_thin 114 = .ok (.ifCond .ne 7, 3) := by decide +kernel
theorem dX56_thin_117 : decode cX56_thin 117 = .ok (.iload_n 1, 1) := by decide +kernel
theorem dX56_thin_118 : decode cX56_thin 118 = .ok (.ifCond .eq 7, 3) := by decide +kernel
theorem dX56_thin_121 : decode cX56_thin 121 = .ok (.iconst 1, 1) := by decide +kernel
theorem dX56_thin_122 : decode cX56_thin 122 = .ok (.goto 4, 3) := by decide +kernel
theorem dX56_thin_125 : decode cX56_thin 125 = .ok (.iconst 0, 1) := by decide +kernel
theorem dX56_thin_126 : decode cX56_thin 126 = .ok (.istore_n 1, 1) := by decide +kernel
theorem dX56_thin_127 : decode cX56_thin 127 = .ok (.iinc 2 (-1), 3) := by decide +kernel
theorem dX56_thin_130 : decode cX56_thin 130 = .ok (.goto (-25), 3) := by decide +kernel
theorem dX56_thin_133 : decode cX56_thin 133 = .ok (.goto (-131), 3) := by decide +kernel
theorem dX56_thin_136 : decode cX56_thin 136 = .ok (.return_, 1) := by decide +kernel
abbrev cX56_isOther : ByteArray := prog_86_method_17_code
def yX56_isOther : MethodName := ⟨RX56, "isOther", "(I)Z"⟩
theorem dX56_isOther_0 : decode cX56_isOther 0 = .ok (.iload_n 1, 1) := by decide +kernel
theorem dX56_isOther_1 : decode cX56_isOther 1 = .ok (.bipush 6, 2) := by decide +kernel
theorem dX56_isOther_3 : decode cX56_isOther 3 = .ok (.if_icmp .eq 29, 3) := by decide +kernel
theorem dX56_isOther_6 : decode cX56_isOther 6 = .ok (.iload_n 1, 1) := by decide +kernel
theorem dX56_isOther_7 : decode cX56_isOther 7 = .ok (.bipush 7, 2) := by decide +kernel
theorem dX56_isOther_9 : decode cX56_isOther 9 = .ok (.if_icmp .eq 23, 3) := by decide +kernel
theorem dX56_isOther_12 : decode cX56_isOther 12 = .ok (.iload_n 1, 1) := by decide +kernel
theorem dX56_isOther_13 : decode cX56_isOther 13 = .ok (.aload_n 0, 1) := by decide +kernel
theorem dX56_isOther_14 : decode cX56_isOther 14 = .ok (.getfield 128, 3) := by decide +kernel
theorem dX56_isOther_17 : decode cX56_isOther 17 = .ok (.if_icmp .eq 15, 3) := by decide +kernel
theorem dX56_isOther_20 : decode cX56_isOther 20 = .ok (.iload_n 1, 1) := by decide +kernel
theorem dX56_isOther_21 : decode cX56_isOther 21 = .ok (.aload_n 0, 1) := by decide +kernel
theorem dX56_isOther_22 : decode cX56_isOther 22 = .ok (.getfield 131, 3) := by decide +kernel
theorem dX56_isOther_25 : decode cX56_isOther 25 = .ok (.if_icmp .eq 7, 3) := by decide +kernel
theorem dX56_isOther_28 : decode cX56_isOther 28 = .ok (.iconst 1, 1) := by decide +kernel
theorem dX56_isOther_29 : decode cX56_isOther 29 = .ok (.goto 4, 3) := by decide +kernel
theorem dX56_isOther_32 : decode cX56_isOther 32 = .ok (.iconst 0, 1) := by decide +kernel
theorem dX56_isOther_33 : decode cX56_isOther 33 = .ok (.ireturn, 1) := by decide +kernel
abbrev cX56_times : ByteArray := prog_86_method_16_code
def yX56_times : MethodName := ⟨RX56, "times", "(I)I"⟩
theorem dX56_times_0 : decode cX56_times 0 = .ok (.iconst 0, 1) := by decide +kernel
theorem dX56_times_1 : decode cX56_times 1 = .ok (.istore_n 2, 1) := by decide +kernel
theorem dX56_times_2 : decode cX56_times 2 = .ok (.iconst 0, 1) := by decide +kernel
theorem dX56_times_3 : decode cX56_times 3 = .ok (.istore_n 3, 1) := by decide +kernel
theorem dX56_times_4 : decode cX56_times 4 = .ok (.iload_n 3, 1) := by decide +kernel
theorem dX56_times_5 : decode cX56_times 5 = .ok (.aload_n 0, 1) := by decide +kernel
theorem dX56_times_6 : decode cX56_times 6 = .ok (.getfield 134, 3) := by decide +kernel
theorem dX56_times_9 : decode cX56_times 9 = .ok (.if_icmp .ge 45, 3) := by decide +kernel
theorem dX56_times_12 : decode cX56_times 12 = .ok (.iload_n 2, 1) := by decide +kernel
theorem dX56_times_13 : decode cX56_times 13 = .ok (.aload_n 0, 1) := by decide +kernel
theorem dX56_times_14 : decode cX56_times 14 = .ok (.getfield 46, 3) := by decide +kernel
theorem dX56_times_17 : decode cX56_times 17 = .ok (.iload_n 3, 1) := by decide +kernel
theorem dX56_times_18 : decode cX56_times 18 = .ok (.iaload, 1) := by decide +kernel
theorem dX56_times_19 : decode cX56_times 19 = .ok (.iload_n 1, 1) := by decide +kernel
theorem dX56_times_20 : decode cX56_times 20 = .ok (.if_icmp .ne 7, 3) := by decide +kernel
theorem dX56_times_23 : decode cX56_times 23 = .ok (.iconst 1, 1) := by decide +kernel
theorem dX56_times_24 : decode cX56_times 24 = .ok (.goto 4, 3) := by decide +kernel
theorem dX56_times_27 : decode cX56_times 27 = .ok (.iconst 0, 1) := by decide +kernel
theorem dX56_times_28 : decode cX56_times 28 = .ok (.iadd, 1) := by decide +kernel
theorem dX56_times_29 : decode cX56_times 29 = .ok (.istore_n 2, 1) := by decide +kernel
theorem dX56_times_30 : decode cX56_times 30 = .ok (.iload_n 2, 1) := by decide +kernel
theorem dX56_times_31 : decode cX56_times 31 = .ok (.aload_n 0, 1) := by decide +kernel
theorem dX56_times_32 : decode cX56_times 32 = .ok (.getfield 49, 3) := by decide +kernel
theorem dX56_times_35 : decode cX56_times 35 = .ok (.iload_n 3, 1) := by decide +kernel
theorem dX56_times_36 : decode cX56_times 36 = .ok (.iaload, 1) := by decide +kernel
theorem dX56_times_37 : decode cX56_times 37 = .ok (.iload_n 1, 1) := by decide +kernel
theorem dX56_times_38 : decode cX56_times 38 = .ok (.if_icmp .ne 7, 3) := by decide +kernel
theorem dX56_times_41 : decode cX56_times 41 = .ok (.iconst 1, 1) := by decide +kernel
theorem dX56_times_42 : decode cX56_times 42 = .ok (.goto 4, 3) := by decide +kernel
theorem dX56_times_45 : decode cX56_times 45 = .ok (.iconst 0, 1) := by decide +kernel
theorem dX56_times_46 : decode cX56_times 46 = .ok (.iadd, 1) := by decide +kernel
theorem dX56_times_47 : decode cX56_times 47 = .ok (.istore_n 2, 1) := by decide +kernel
theorem dX56_times_48 : decode cX56_times 48 = .ok (.iinc 3 1, 3) := by decide +kernel
theorem dX56_times_51 : decode cX56_times 51 = .ok (.goto (-47), 3) := by decide +kernel
theorem dX56_times_54 : decode cX56_times 54 = .ok (.iload_n 2, 1) := by decide +kernel
theorem dX56_times_55 : decode cX56_times 55 = .ok (.ireturn, 1) := by decide +kernel
abbrev cX56_goes : ByteArray := prog_86_method_18_code
def yX56_goes : MethodName := ⟨RX56, "goes", "(I)Z"⟩
theorem dX56_goes_0 : decode cX56_goes 0 = .ok (.iconst 0, 1) := by decide +kernel
theorem dX56_goes_1 : decode cX56_goes 1 = .ok (.istore_n 2, 1) := by decide +kernel
theorem dX56_goes_2 : decode cX56_goes 2 = .ok (.iload_n 2, 1) := by decide +kernel
theorem dX56_goes_3 : decode cX56_goes 3 = .ok (.iload_n 1, 1) := by decide +kernel
theorem dX56_goes_4 : decode cX56_goes 4 = .ok (.if_icmp .ge 111, 3) := by decide +kernel
theorem dX56_goes_7 : decode cX56_goes 7 = .ok (.aload_n 0, 1) := by decide +kernel
theorem dX56_goes_8 : decode cX56_goes 8 = .ok (.getfield 43, 3) := by decide +kernel
theorem dX56_goes_11 : decode cX56_goes 11 = .ok (.iload_n 2, 1) := by decide +kernel
theorem dX56_goes_12 : decode cX56_goes 12 = .ok (.iaload, 1) := by decide +kernel
theorem dX56_goes_13 : decode cX56_goes 13 = .ok (.aload_n 0, 1) := by decide +kernel
theorem dX56_goes_14 : decode cX56_goes 14 = .ok (.getfield 43, 3) := by decide +kernel
theorem dX56_goes_17 : decode cX56_goes 17 = .ok (.iload_n 1, 1) := by decide +kernel
theorem dX56_goes_18 : decode cX56_goes 18 = .ok (.iaload, 1) := by decide +kernel
theorem dX56_goes_19 : decode cX56_goes 19 = .ok (.if_icmp .ne 90, 3) := by decide +kernel
theorem dX56_goes_22 : decode cX56_goes 22 = .ok (.aload_n 0, 1) := by decide +kernel
theorem dX56_goes_23 : decode cX56_goes 23 = .ok (.getfield 46, 3) := by decide +kernel
theorem dX56_goes_26 : decode cX56_goes 26 = .ok (.iload_n 2, 1) := by decide +kernel
theorem dX56_goes_27 : decode cX56_goes 27 = .ok (.iaload, 1) := by decide +kernel
theorem dX56_goes_28 : decode cX56_goes 28 = .ok (.aload_n 0, 1) := by decide +kernel
theorem dX56_goes_29 : decode cX56_goes 29 = .ok (.getfield 46, 3) := by decide +kernel
theorem dX56_goes_32 : decode cX56_goes 32 = .ok (.iload_n 1, 1) := by decide +kernel
theorem dX56_goes_33 : decode cX56_goes 33 = .ok (.iaload, 1) := by decide +kernel
theorem dX56_goes_34 : decode cX56_goes 34 = .ok (.if_icmp .ne 75, 3) := by decide +kernel
theorem dX56_goes_37 : decode cX56_goes 37 = .ok (.aload_n 0, 1) := by decide +kernel
theorem dX56_goes_38 : decode cX56_goes 38 = .ok (.getfield 49, 3) := by decide +kernel
theorem dX56_goes_41 : decode cX56_goes 41 = .ok (.iload_n 2, 1) := by decide +kernel
theorem dX56_goes_42 : decode cX56_goes 42 = .ok (.iaload, 1) := by decide +kernel
theorem dX56_goes_43 : decode cX56_goes 43 = .ok (.aload_n 0, 1) := by decide +kernel
theorem dX56_goes_44 : decode cX56_goes 44 = .ok (.getfield 49, 3) := by decide +kernel
theorem dX56_goes_47 : decode cX56_goes 47 = .ok (.iload_n 1, 1) := by decide +kernel
theorem dX56_goes_48 : decode cX56_goes 48 = .ok (.iaload, 1) := by decide +kernel
theorem dX56_goes_49 : decode cX56_goes 49 = .ok (.if_icmp .ne 60, 3) := by decide +kernel
theorem dX56_goes_52 : decode cX56_goes 52 = .ok (.aload_n 0, 1) := by decide +kernel
theorem dX56_goes_53 : decode cX56_goes 53 = .ok (.dup, 1) := by decide +kernel
theorem dX56_goes_54 : decode cX56_goes 54 = .ok (.getfield 134, 3) := by decide +kernel
theorem dX56_goes_57 : decode cX56_goes 57 = .ok (.iconst 1, 1) := by decide +kernel
theorem dX56_goes_58 : decode cX56_goes 58 = .ok (.isub, 1) := by decide +kernel
theorem dX56_goes_59 : decode cX56_goes 59 = .ok (.putfield 134, 3) := by decide +kernel
theorem dX56_goes_62 : decode cX56_goes 62 = .ok (.aload_n 0, 1) := by decide +kernel
theorem dX56_goes_63 : decode cX56_goes 63 = .ok (.getfield 43, 3) := by decide +kernel
theorem dX56_goes_66 : decode cX56_goes 66 = .ok (.iload_n 1, 1) := by decide +kernel
theorem dX56_goes_67 : decode cX56_goes 67 = .ok (.aload_n 0, 1) := by decide +kernel
theorem dX56_goes_68 : decode cX56_goes 68 = .ok (.getfield 43, 3) := by decide +kernel
theorem dX56_goes_71 : decode cX56_goes 71 = .ok (.aload_n 0, 1) := by decide +kernel
theorem dX56_goes_72 : decode cX56_goes 72 = .ok (.getfield 134, 3) := by decide +kernel
theorem dX56_goes_75 : decode cX56_goes 75 = .ok (.iaload, 1) := by decide +kernel
theorem dX56_goes_76 : decode cX56_goes 76 = .ok (.iastore, 1) := by decide +kernel
theorem dX56_goes_77 : decode cX56_goes 77 = .ok (.aload_n 0, 1) := by decide +kernel
theorem dX56_goes_78 : decode cX56_goes 78 = .ok (.getfield 46, 3) := by decide +kernel
theorem dX56_goes_81 : decode cX56_goes 81 = .ok (.iload_n 1, 1) := by decide +kernel
theorem dX56_goes_82 : decode cX56_goes 82 = .ok (.aload_n 0, 1) := by decide +kernel
theorem dX56_goes_83 : decode cX56_goes 83 = .ok (.getfield 46, 3) := by decide +kernel
theorem dX56_goes_86 : decode cX56_goes 86 = .ok (.aload_n 0, 1) := by decide +kernel
theorem dX56_goes_87 : decode cX56_goes 87 = .ok (.getfield 134, 3) := by decide +kernel
theorem dX56_goes_90 : decode cX56_goes 90 = .ok (.iaload, 1) := by decide +kernel
theorem dX56_goes_91 : decode cX56_goes 91 = .ok (.iastore, 1) := by decide +kernel
theorem dX56_goes_92 : decode cX56_goes 92 = .ok (.aload_n 0, 1) := by decide +kernel
theorem dX56_goes_93 : decode cX56_goes 93 = .ok (.getfield 49, 3) := by decide +kernel
theorem dX56_goes_96 : decode cX56_goes 96 = .ok (.iload_n 1, 1) := by decide +kernel
theorem dX56_goes_97 : decode cX56_goes 97 = .ok (.aload_n 0, 1) := by decide +kernel
theorem dX56_goes_98 : decode cX56_goes 98 = .ok (.getfield 49, 3) := by decide +kernel
theorem dX56_goes_101 : decode cX56_goes 101 = .ok (.aload_n 0, 1) := by decide +kernel
theorem dX56_goes_102 : decode cX56_goes 102 = .ok (.getfield 134, 3) := by decide +kernel
theorem dX56_goes_105 : decode cX56_goes 105 = .ok (.iaload, 1) := by decide +kernel
theorem dX56_goes_106 : decode cX56_goes 106 = .ok (.iastore, 1) := by decide +kernel
theorem dX56_goes_107 : decode cX56_goes 107 = .ok (.iconst 1, 1) := by decide +kernel
theorem dX56_goes_108 : decode cX56_goes 108 = .ok (.ireturn, 1) := by decide +kernel
theorem dX56_goes_109 : decode cX56_goes 109 = .ok (.iinc 2 1, 3) := by decide +kernel
theorem dX56_goes_112 : decode cX56_goes 112 = .ok (.goto (-110), 3) := by decide +kernel
theorem dX56_goes_115 : decode cX56_goes 115 = .ok (.iconst 0, 1) := by decide +kernel
theorem dX56_goes_116 : decode cX56_goes 116 = .ok (.ireturn, 1) := by decide +kernel
abbrev cX56_gather : ByteArray := prog_86_method_20_code
def yX56_gather : MethodName := ⟨RX56, "gather", "(I)V"⟩
theorem dX56_gather_0 : decode cX56_gather 0 = .ok (.aload_n 0, 1) := by decide +kernel
theorem dX56_gather_1 : decode cX56_gather 1 = .ok (.iload_n 1, 1) := by decide +kernel
theorem dX56_gather_2 : decode cX56_gather 2 = .ok (.invokevirtual 145, 3) := by decide +kernel
theorem dX56_gather_5 : decode cX56_gather 5 = .ok (.ifCond .ne 4, 3) := by decide +kernel
theorem dX56_gather_8 : decode cX56_gather 8 = .ok (.return_, 1) := by decide +kernel
theorem dX56_gather_9 : decode cX56_gather 9 = .ok (.iconst 0, 1) := by decide +kernel
theorem dX56_gather_10 : decode cX56_gather 10 = .ok (.istore_n 2, 1) := by decide +kernel
theorem dX56_gather_11 : decode cX56_gather 11 = .ok (.iload_n 2, 1) := by decide +kernel
theorem dX56_gather_12 : decode cX56_gather 12 = .ok (.aload_n 0, 1) := by decide +kernel
theorem dX56_gather_13 : decode cX56_gather 13 = .ok (.getfield 155, 3) := by decide +kernel
theorem dX56_gather_16 : decode cX56_gather 16 = .ok (.if_icmp .ge 20, 3) := by decide +kernel
theorem dX56_gather_19 : decode cX56_gather 19 = .ok (.aload_n 0, 1) := by decide +kernel
theorem dX56_gather_20 : decode cX56_gather 20 = .ok (.getfield 58, 3) := by decide +kernel
theorem dX56_gather_23 : decode cX56_gather 23 = .ok (.iload_n 2, 1) := by decide +kernel
theorem dX56_gather_24 : decode cX56_gather 24 = .ok (.iaload, 1) := by decide +kernel
theorem dX56_gather_25 : decode cX56_gather 25 = .ok (.iload_n 1, 1) := by decide +kernel
theorem dX56_gather_26 : decode cX56_gather 26 = .ok (.if_icmp .ne 4, 3) := by decide +kernel
theorem dX56_gather_29 : decode cX56_gather 29 = .ok (.return_, 1) := by decide +kernel
theorem dX56_gather_30 : decode cX56_gather 30 = .ok (.iinc 2 1, 3) := by decide +kernel
theorem dX56_gather_33 : decode cX56_gather 33 = .ok (.goto (-22), 3) := by decide +kernel
theorem dX56_gather_36 : decode cX56_gather 36 = .ok (.aload_n 0, 1) := by decide +kernel
theorem dX56_gather_37 : decode cX56_gather 37 = .ok (.getfield 58, 3) := by decide +kernel
theorem dX56_gather_40 : decode cX56_gather 40 = .ok (.aload_n 0, 1) := by decide +kernel
theorem dX56_gather_41 : decode cX56_gather 41 = .ok (.getfield 155, 3) := by decide +kernel
theorem dX56_gather_44 : decode cX56_gather 44 = .ok (.iload_n 1, 1) := by decide +kernel
theorem dX56_gather_45 : decode cX56_gather 45 = .ok (.iastore, 1) := by decide +kernel
theorem dX56_gather_46 : decode cX56_gather 46 = .ok (.aload_n 0, 1) := by decide +kernel
theorem dX56_gather_47 : decode cX56_gather 47 = .ok (.dup, 1) := by decide +kernel
theorem dX56_gather_48 : decode cX56_gather 48 = .ok (.getfield 155, 3) := by decide +kernel
theorem dX56_gather_51 : decode cX56_gather 51 = .ok (.iconst 1, 1) := by decide +kernel
theorem dX56_gather_52 : decode cX56_gather 52 = .ok (.iadd, 1) := by decide +kernel
theorem dX56_gather_53 : decode cX56_gather 53 = .ok (.putfield 155, 3) := by decide +kernel
theorem dX56_gather_56 : decode cX56_gather 56 = .ok (.return_, 1) := by decide +kernel
abbrev cX56_isWay : ByteArray := prog_86_method_22_code
def yX56_isWay : MethodName := ⟨RX56, "isWay", "(I)Z"⟩
theorem dX56_isWay_0 : decode cX56_isWay 0 = .ok (.iconst 0, 1) := by decide +kernel
theorem dX56_isWay_1 : decode cX56_isWay 1 = .ok (.istore_n 2, 1) := by decide +kernel
theorem dX56_isWay_2 : decode cX56_isWay 2 = .ok (.iconst 0, 1) := by decide +kernel
theorem dX56_isWay_3 : decode cX56_isWay 3 = .ok (.istore_n 3, 1) := by decide +kernel
theorem dX56_isWay_4 : decode cX56_isWay 4 = .ok (.iload_n 3, 1) := by decide +kernel
theorem dX56_isWay_5 : decode cX56_isWay 5 = .ok (.aload_n 0, 1) := by decide +kernel
theorem dX56_isWay_6 : decode cX56_isWay 6 = .ok (.getfield 155, 3) := by decide +kernel
theorem dX56_isWay_9 : decode cX56_isWay 9 = .ok (.if_icmp .ge 46, 3) := by decide +kernel
theorem dX56_isWay_12 : decode cX56_isWay 12 = .ok (.iload_n 1, 1) := by decide +kernel
theorem dX56_isWay_13 : decode cX56_isWay 13 = .ok (.iconst 2, 1) := by decide +kernel
theorem dX56_isWay_14 : decode cX56_isWay 14 = .ok (.iload_n 3, 1) := by decide +kernel
theorem dX56_isWay_15 : decode cX56_isWay 15 = .ok (.imul, 1) := by decide +kernel
theorem dX56_isWay_16 : decode cX56_isWay 16 = .ok (.ishr, 1) := by decide +kernel
theorem dX56_isWay_17 : decode cX56_isWay 17 = .ok (.iconst 3, 1) := by decide +kernel
theorem dX56_isWay_18 : decode cX56_isWay 18 = .ok (.iand, 1) := by decide +kernel
theorem dX56_isWay_19 : decode cX56_isWay 19 = .ok (.istore 4, 2) := by decide +kernel
theorem dX56_isWay_21 : decode cX56_isWay 21 = .ok (.iload 4, 2) := by decide +kernel
theorem dX56_isWay_23 : decode cX56_isWay 23 = .ok (.aload_n 0, 1) := by decide +kernel
theorem dX56_isWay_24 : decode cX56_isWay 24 = .ok (.getfield 155, 3) := by decide +kernel
theorem dX56_isWay_27 : decode cX56_isWay 27 = .ok (.if_icmp .ge 13, 3) := by decide +kernel
theorem dX56_isWay_30 : decode cX56_isWay 30 = .ok (.iload_n 2, 1) := by decide +kernel
theorem dX56_isWay_31 : decode cX56_isWay 31 = .ok (.iload 4, 2) := by decide +kernel
theorem dX56_isWay_33 : decode cX56_isWay 33 = .ok (.ishr, 1) := by decide +kernel
theorem dX56_isWay_34 : decode cX56_isWay 34 = .ok (.iconst 1, 1) := by decide +kernel
theorem dX56_isWay_35 : decode cX56_isWay 35 = .ok (.iand, 1) := by decide +kernel
theorem dX56_isWay_36 : decode cX56_isWay 36 = .ok (.iconst 1, 1) := by decide +kernel
theorem dX56_isWay_37 : decode cX56_isWay 37 = .ok (.if_icmp .ne 5, 3) := by decide +kernel
theorem dX56_isWay_40 : decode cX56_isWay 40 = .ok (.iconst 0, 1) := by decide +kernel
theorem dX56_isWay_41 : decode cX56_isWay 41 = .ok (.ireturn, 1) := by decide +kernel
theorem dX56_isWay_42 : decode cX56_isWay 42 = .ok (.iload_n 2, 1) := by decide +kernel
theorem dX56_isWay_43 : decode cX56_isWay 43 = .ok (.iconst 1, 1) := by decide +kernel
theorem dX56_isWay_44 : decode cX56_isWay 44 = .ok (.iload 4, 2) := by decide +kernel
theorem dX56_isWay_46 : decode cX56_isWay 46 = .ok (.ishl, 1) := by decide +kernel
theorem dX56_isWay_47 : decode cX56_isWay 47 = .ok (.ior, 1) := by decide +kernel
theorem dX56_isWay_48 : decode cX56_isWay 48 = .ok (.istore_n 2, 1) := by decide +kernel
theorem dX56_isWay_49 : decode cX56_isWay 49 = .ok (.iinc 3 1, 3) := by decide +kernel
theorem dX56_isWay_52 : decode cX56_isWay 52 = .ok (.goto (-48), 3) := by decide +kernel
theorem dX56_isWay_55 : decode cX56_isWay 55 = .ok (.iconst 1, 1) := by decide +kernel
theorem dX56_isWay_56 : decode cX56_isWay 56 = .ok (.ireturn, 1) := by decide +kernel
abbrev cX56_named : ByteArray := prog_86_method_21_code
def yX56_named : MethodName := ⟨RX56, "named", "(II)I"⟩
theorem dX56_named_0 : decode cX56_named 0 = .ok (.iload_n 1, 1) := by decide +kernel
theorem dX56_named_1 : decode cX56_named 1 = .ok (.bipush 6, 2) := by decide +kernel
theorem dX56_named_3 : decode cX56_named 3 = .ok (.if_icmp .eq 9, 3) := by decide +kernel
theorem dX56_named_6 : decode cX56_named 6 = .ok (.iload_n 1, 1) := by decide +kernel
theorem dX56_named_7 : decode cX56_named 7 = .ok (.bipush 7, 2) := by decide +kernel
theorem dX56_named_9 : decode cX56_named 9 = .ok (.if_icmp .ne 5, 3) := by decide +kernel
theorem dX56_named_12 : decode cX56_named 12 = .ok (.iload_n 1, 1) := by decide +kernel
theorem dX56_named_13 : decode cX56_named 13 = .ok (.ireturn, 1) := by decide +kernel
theorem dX56_named_14 : decode cX56_named 14 = .ok (.iload_n 1, 1) := by decide +kernel
theorem dX56_named_15 : decode cX56_named 15 = .ok (.aload_n 0, 1) := by decide +kernel
theorem dX56_named_16 : decode cX56_named 16 = .ok (.getfield 128, 3) := by decide +kernel
theorem dX56_named_19 : decode cX56_named 19 = .ok (.if_icmp .ne 5, 3) := by decide +kernel
theorem dX56_named_22 : decode cX56_named 22 = .ok (.iconst 0, 1) := by decide +kernel
theorem dX56_named_23 : decode cX56_named 23 = .ok (.ireturn, 1) := by decide +kernel
theorem dX56_named_24 : decode cX56_named 24 = .ok (.iload_n 1, 1) := by decide +kernel
theorem dX56_named_25 : decode cX56_named 25 = .ok (.aload_n 0, 1) := by decide +kernel
theorem dX56_named_26 : decode cX56_named 26 = .ok (.getfield 131, 3) := by decide +kernel
theorem dX56_named_29 : decode cX56_named 29 = .ok (.if_icmp .ne 5, 3) := by decide +kernel
theorem dX56_named_32 : decode cX56_named 32 = .ok (.iconst 1, 1) := by decide +kernel
theorem dX56_named_33 : decode cX56_named 33 = .ok (.ireturn, 1) := by decide +kernel
theorem dX56_named_34 : decode cX56_named 34 = .ok (.iconst 0, 1) := by decide +kernel
theorem dX56_named_35 : decode cX56_named 35 = .ok (.istore_n 3, 1) := by decide +kernel
theorem dX56_named_36 : decode cX56_named 36 = .ok (.aload_n 0, 1) := by decide +kernel
theorem dX56_named_37 : decode cX56_named 37 = .ok (.getfield 58, 3) := by decide +kernel
theorem dX56_named_40 : decode cX56_named 40 = .ok (.iload_n 3, 1) := by decide +kernel
theorem dX56_named_41 : decode cX56_named 41 = .ok (.iaload, 1) := by decide +kernel
theorem dX56_named_42 : decode cX56_named 42 = .ok (.iload_n 1, 1) := by decide +kernel
theorem dX56_named_43 : decode cX56_named 43 = .ok (.if_icmp .eq 9, 3) := by decide +kernel
theorem dX56_named_46 : decode cX56_named 46 = .ok (.iinc 3 1, 3) := by decide +kernel
theorem dX56_named_49 : decode cX56_named 49 = .ok (.goto (-13), 3) := by decide +kernel
theorem dX56_named_52 : decode cX56_named 52 = .ok (.iconst 2, 1) := by decide +kernel
theorem dX56_named_53 : decode cX56_named 53 = .ok (.iload_n 2, 1) := by decide +kernel
theorem dX56_named_54 : decode cX56_named 54 = .ok (.iconst 2, 1) := by decide +kernel
theorem dX56_named_55 : decode cX56_named 55 = .ok (.iload_n 3, 1) := by decide +kernel
theorem dX56_named_56 : decode cX56_named 56 = .ok (.imul, 1) := by decide +kernel
theorem dX56_named_57 : decode cX56_named 57 = .ok (.ishr, 1) := by decide +kernel
theorem dX56_named_58 : decode cX56_named 58 = .ok (.iconst 3, 1) := by decide +kernel
theorem dX56_named_59 : decode cX56_named 59 = .ok (.iand, 1) := by decide +kernel
theorem dX56_named_60 : decode cX56_named 60 = .ok (.iadd, 1) := by decide +kernel
theorem dX56_named_61 : decode cX56_named 61 = .ok (.ireturn, 1) := by decide +kernel
abbrev cX56_sortCodes : ByteArray := prog_86_method_23_code
def yX56_sortCodes : MethodName := ⟨RX56, "sortCodes", "()V"⟩
theorem dX56_sortCodes_0 : decode cX56_sortCodes 0 = .ok (.iconst 0, 1) := by decide +kernel
theorem dX56_sortCodes_1 : decode cX56_sortCodes 1 = .ok (.istore_n 1, 1) := by decide +kernel
theorem dX56_sortCodes_2 : decode cX56_sortCodes 2 = .ok (.iload_n 1, 1) := by decide +kernel
theorem dX56_sortCodes_3 : decode cX56_sortCodes 3 = .ok (.aload_n 0, 1) := by decide +kernel
theorem dX56_sortCodes_4 : decode cX56_sortCodes 4 = .ok (.getfield 134, 3) := by decide +kernel
theorem dX56_sortCodes_7 : decode cX56_sortCodes 7 = .ok (.if_icmp .ge 79, 3) := by decide +kernel
theorem dX56_sortCodes_10 : decode cX56_sortCodes 10 = .ok (.iconst 0, 1) := by decide +kernel
theorem dX56_sortCodes_11 : decode cX56_sortCodes 11 = .ok (.istore_n 2, 1) := by decide +kernel
theorem dX56_sortCodes_12 : decode cX56_sortCodes 12 = .ok (.iload_n 2, 1) := by decide +kernel
theorem dX56_sortCodes_13 : decode cX56_sortCodes 13 = .ok (.iconst 1, 1) := by decide +kernel
theorem dX56_sortCodes_14 : decode cX56_sortCodes 14 = .ok (.iadd, 1) := by decide +kernel
theorem dX56_sortCodes_15 : decode cX56_sortCodes 15 = .ok (.aload_n 0, 1) := by decide +kernel
theorem dX56_sortCodes_16 : decode cX56_sortCodes 16 = .ok (.getfield 134, 3) := by decide +kernel
theorem dX56_sortCodes_19 : decode cX56_sortCodes 19 = .ok (.iload_n 1, 1) := by decide +kernel
theorem dX56_sortCodes_20 : decode cX56_sortCodes 20 = .ok (.isub, 1) := by decide +kernel
theorem dX56_sortCodes_21 : decode cX56_sortCodes 21 = .ok (.if_icmp .ge 59, 3) := by decide +kernel
theorem dX56_sortCodes_24 : decode cX56_sortCodes 24 = .ok (.aload_n 0, 1) := by decide +kernel
theorem dX56_sortCodes_25 : decode cX56_sortCodes 25 = .ok (.getfield 52, 3) := by decide +kernel
theorem dX56_sortCodes_28 : decode cX56_sortCodes 28 = .ok (.iload_n 2, 1) := by decide +kernel
theorem dX56_sortCodes_29 : decode cX56_sortCodes 29 = .ok (.iaload, 1) := by decide +kernel
theorem dX56_sortCodes_30 : decode cX56_sortCodes 30 = .ok (.aload_n 0, 1) := by decide +kernel
theorem dX56_sortCodes_31 : decode cX56_sortCodes 31 = .ok (.getfield 52, 3) := by decide +kernel
theorem dX56_sortCodes_34 : decode cX56_sortCodes 34 = .ok (.iload_n 2, 1) := by decide +kernel
theorem dX56_sortCodes_35 : decode cX56_sortCodes 35 = .ok (.iconst 1, 1) := by decide +kernel
theorem dX56_sortCodes_36 : decode cX56_sortCodes 36 = .ok (.iadd, 1) := by decide +kernel
theorem dX56_sortCodes_37 : decode cX56_sortCodes 37 = .ok (.iaload, 1) := by decide +kernel
theorem dX56_sortCodes_38 : decode cX56_sortCodes 38 = .ok (.if_icmp .gt 6, 3) := by decide +kernel
theorem dX56_sortCodes_41 : decode cX56_sortCodes 41 = .ok (.goto 33, 3) := by decide +kernel
theorem dX56_sortCodes_44 : decode cX56_sortCodes 44 = .ok (.aload_n 0, 1) := by decide +kernel
theorem dX56_sortCodes_45 : decode cX56_sortCodes 45 = .ok (.getfield 52, 3) := by decide +kernel
theorem dX56_sortCodes_48 : decode cX56_sortCodes 48 = .ok (.iload_n 2, 1) := by decide +kernel
theorem dX56_sortCodes_49 : decode cX56_sortCodes 49 = .ok (.iaload, 1) := by decide +kernel
theorem dX56_sortCodes_50 : decode cX56_sortCodes 50 = .ok (.istore_n 3, 1) := by decide +kernel
theorem dX56_sortCodes_51 : decode cX56_sortCodes 51 = .ok (.aload_n 0, 1) := by decide +kernel
theorem dX56_sortCodes_52 : decode cX56_sortCodes 52 = .ok (.getfield 52, 3) := by decide +kernel
theorem dX56_sortCodes_55 : decode cX56_sortCodes 55 = .ok (.iload_n 2, 1) := by decide +kernel
theorem dX56_sortCodes_56 : decode cX56_sortCodes 56 = .ok (.aload_n 0, 1) := by decide +kernel
theorem dX56_sortCodes_57 : decode cX56_sortCodes 57 = .ok (.getfield 52, 3) := by decide +kernel
theorem dX56_sortCodes_60 : decode cX56_sortCodes 60 = .ok (.iload_n 2, 1) := by decide +kernel
theorem dX56_sortCodes_61 : decode cX56_sortCodes 61 = .ok (.iconst 1, 1) := by decide +kernel
theorem dX56_sortCodes_62 : decode cX56_sortCodes 62 = .ok (.iadd, 1) := by decide +kernel
theorem dX56_sortCodes_63 : decode cX56_sortCodes 63 = .ok (.iaload, 1) := by decide +kernel
theorem dX56_sortCodes_64 : decode cX56_sortCodes 64 = .ok (.iastore, 1) := by decide +kernel
theorem dX56_sortCodes_65 : decode cX56_sortCodes 65 = .ok (.aload_n 0, 1) := by decide +kernel
theorem dX56_sortCodes_66 : decode cX56_sortCodes 66 = .ok (.getfield 52, 3) := by decide +kernel
theorem dX56_sortCodes_69 : decode cX56_sortCodes 69 = .ok (.iload_n 2, 1) := by decide +kernel
theorem dX56_sortCodes_70 : decode cX56_sortCodes 70 = .ok (.iconst 1, 1) := by decide +kernel
theorem dX56_sortCodes_71 : decode cX56_sortCodes 71 = .ok (.iadd, 1) := by decide +kernel
theorem dX56_sortCodes_72 : decode cX56_sortCodes 72 = .ok (.iload_n 3, 1) := by decide +kernel
theorem dX56_sortCodes_73 : decode cX56_sortCodes 73 = .ok (.iastore, 1) := by decide +kernel
theorem dX56_sortCodes_74 : decode cX56_sortCodes 74 = .ok (.iinc 2 1, 3) := by decide +kernel
theorem dX56_sortCodes_77 : decode cX56_sortCodes 77 = .ok (.goto (-65), 3) := by decide +kernel
theorem dX56_sortCodes_80 : decode cX56_sortCodes 80 = .ok (.iinc 1 1, 3) := by decide +kernel
theorem dX56_sortCodes_83 : decode cX56_sortCodes 83 = .ok (.goto (-81), 3) := by decide +kernel
theorem dX56_sortCodes_86 : decode cX56_sortCodes 86 = .ok (.return_, 1) := by decide +kernel
abbrev cX56_isThere : ByteArray := prog_86_method_25_code
def yX56_isThere : MethodName := ⟨RX56, "isThere", "(II)Z"⟩
theorem dX56_isThere_0 : decode cX56_isThere 0 = .ok (.iconst 0, 1) := by decide +kernel
theorem dX56_isThere_1 : decode cX56_isThere 1 = .ok (.istore_n 3, 1) := by decide +kernel
theorem dX56_isThere_2 : decode cX56_isThere 2 = .ok (.iload_n 3, 1) := by decide +kernel
theorem dX56_isThere_3 : decode cX56_isThere 3 = .ok (.aload_n 0, 1) := by decide +kernel
theorem dX56_isThere_4 : decode cX56_isThere 4 = .ok (.getfield 181, 3) := by decide +kernel
theorem dX56_isThere_7 : decode cX56_isThere 7 = .ok (.if_icmp .ge 107, 3) := by decide +kernel
theorem dX56_isThere_10 : decode cX56_isThere 10 = .ok (.aload_n 0, 1) := by decide +kernel
theorem dX56_isThere_11 : decode cX56_isThere 11 = .ok (.getfield 64, 3) := by decide +kernel
theorem dX56_isThere_14 : decode cX56_isThere 14 = .ok (.iload_n 3, 1) := by decide +kernel
theorem dX56_isThere_15 : decode cX56_isThere 15 = .ok (.iaload, 1) := by decide +kernel
theorem dX56_isThere_16 : decode cX56_isThere 16 = .ok (.iload_n 1, 1) := by decide +kernel
theorem dX56_isThere_17 : decode cX56_isThere 17 = .ok (.if_icmp .ne 30, 3) := by decide +kernel
theorem dX56_isThere_20 : decode cX56_isThere 20 = .ok (.aload_n 0, 1) := by decide +kernel
theorem dX56_isThere_21 : decode cX56_isThere 21 = .ok (.getfield 67, 3) := by decide +kernel
theorem dX56_isThere_24 : decode cX56_isThere 24 = .ok (.iload_n 3, 1) := by decide +kernel
theorem dX56_isThere_25 : decode cX56_isThere 25 = .ok (.iaload, 1) := by decide +kernel
theorem dX56_isThere_26 : decode cX56_isThere 26 = .ok (.iload_n 2, 1) := by decide +kernel
theorem dX56_isThere_27 : decode cX56_isThere 27 = .ok (.if_icmp .ne 20, 3) := by decide +kernel
theorem dX56_isThere_30 : decode cX56_isThere 30 = .ok (.aload_n 0, 1) := by decide +kernel
theorem dX56_isThere_31 : decode cX56_isThere 31 = .ok (.getfield 61, 3) := by decide +kernel
theorem dX56_isThere_34 : decode cX56_isThere 34 = .ok (.iload_n 3, 1) := by decide +kernel
theorem dX56_isThere_35 : decode cX56_isThere 35 = .ok (.iaload, 1) := by decide +kernel
theorem dX56_isThere_36 : decode cX56_isThere 36 = .ok (.aload_n 0, 1) := by decide +kernel
theorem dX56_isThere_37 : decode cX56_isThere 37 = .ok (.getfield 134, 3) := by decide +kernel
theorem dX56_isThere_40 : decode cX56_isThere 40 = .ok (.if_icmp .ne 7, 3) := by decide +kernel
theorem dX56_isThere_43 : decode cX56_isThere 43 = .ok (.iconst 1, 1) := by decide +kernel
theorem dX56_isThere_44 : decode cX56_isThere 44 = .ok (.goto 4, 3) := by decide +kernel
theorem dX56_isThere_47 : decode cX56_isThere 47 = .ok (.iconst 0, 1) := by decide +kernel
theorem dX56_isThere_48 : decode cX56_isThere 48 = .ok (.istore 4, 2) := by decide +kernel
theorem dX56_isThere_50 : decode cX56_isThere 50 = .ok (.iconst 0, 1) := by decide +kernel
theorem dX56_isThere_51 : decode cX56_isThere 51 = .ok (.istore 5, 2) := by decide +kernel
theorem dX56_isThere_53 : decode cX56_isThere 53 = .ok (.iload 5, 2) := by decide +kernel
theorem dX56_isThere_55 : decode cX56_isThere 55 = .ok (.aload_n 0, 1) := by decide +kernel
theorem dX56_isThere_56 : decode cX56_isThere 56 = .ok (.getfield 134, 3) := by decide +kernel
theorem dX56_isThere_59 : decode cX56_isThere 59 = .ok (.if_icmp .ge 42, 3) := by decide +kernel
theorem dX56_isThere_62 : decode cX56_isThere 62 = .ok (.iload 4, 2) := by decide +kernel
theorem dX56_isThere_64 : decode cX56_isThere 64 = .ok (.ifCond .eq 37, 3) := by decide +kernel
theorem dX56_isThere_67 : decode cX56_isThere 67 = .ok (.aload_n 0, 1) := by decide +kernel
theorem dX56_isThere_68 : decode cX56_isThere 68 = .ok (.getfield 70, 3) := by decide +kernel
theorem dX56_isThere_71 : decode cX56_isThere 71 = .ok (.iconst 4, 1) := by decide +kernel
theorem dX56_isThere_72 : decode cX56_isThere 72 = .ok (.iload_n 3, 1) := by decide +kernel
theorem dX56_isThere_73 : decode cX56_isThere 73 = .ok (.imul, 1) := by decide +kernel
theorem dX56_isThere_74 : decode cX56_isThere 74 = .ok (.iload 5, 2) := by decide +kernel
theorem dX56_isThere_76 : decode cX56_isThere 76 = .ok (.iadd, 1) := by decide +kernel
theorem dX56_isThere_77 : decode cX56_isThere 77 = .ok (.iaload, 1) := by decide +kernel
theorem dX56_isThere_78 : decode cX56_isThere 78 = .ok (.aload_n 0, 1) := by decide +kernel
theorem dX56_isThere_79 : decode cX56_isThere 79 = .ok (.getfield 55, 3) := by decide +kernel
theorem dX56_isThere_82 : decode cX56_isThere 82 = .ok (.iload 5, 2) := by decide +kernel
theorem dX56_isThere_84 : decode cX56_isThere 84 = .ok (.iaload, 1) := by decide +kernel
theorem dX56_isThere_85 : decode cX56_isThere 85 = .ok (.if_icmp .ne 7, 3) := by decide +kernel
theorem dX56_isThere_88 : decode cX56_isThere 88 = .ok (.iconst 1, 1) := by decide +kernel
theorem dX56_isThere_89 : decode cX56_isThere 89 = .ok (.goto 4, 3) := by decide +kernel
theorem dX56_isThere_92 : decode cX56_isThere 92 = .ok (.iconst 0, 1) := by decide +kernel
theorem dX56_isThere_93 : decode cX56_isThere 93 = .ok (.istore 4, 2) := by decide +kernel
theorem dX56_isThere_95 : decode cX56_isThere 95 = .ok (.iinc 5 1, 3) := by decide +kernel
theorem dX56_isThere_98 : decode cX56_isThere 98 = .ok (.goto (-45), 3) := by decide +kernel
theorem dX56_isThere_101 : decode cX56_isThere 101 = .ok (.iload 4, 2) := by decide +kernel
theorem dX56_isThere_103 : decode cX56_isThere 103 = .ok (.ifCond .eq 5, 3) := by decide +kernel
theorem dX56_isThere_106 : decode cX56_isThere 106 = .ok (.iconst 1, 1) := by decide +kernel
theorem dX56_isThere_107 : decode cX56_isThere 107 = .ok (.ireturn, 1) := by decide +kernel
theorem dX56_isThere_108 : decode cX56_isThere 108 = .ok (.iinc 3 1, 3) := by decide +kernel
theorem dX56_isThere_111 : decode cX56_isThere 111 = .ok (.goto (-109), 3) := by decide +kernel
theorem dX56_isThere_114 : decode cX56_isThere 114 = .ok (.iconst 0, 1) := by decide +kernel
theorem dX56_isThere_115 : decode cX56_isThere 115 = .ok (.ireturn, 1) := by decide +kernel
abbrev cX56_keep : ByteArray := prog_86_method_26_code
def yX56_keep : MethodName := ⟨RX56, "keep", "(II)V"⟩
theorem dX56_keep_0 : decode cX56_keep 0 = .ok (.aload_n 0, 1) := by decide +kernel
theorem dX56_keep_1 : decode cX56_keep 1 = .ok (.getfield 181, 3) := by decide +kernel
theorem dX56_keep_4 : decode cX56_keep 4 = .ok (.bipush 90, 2) := by decide +kernel
theorem dX56_keep_6 : decode cX56_keep 6 = .ok (.if_icmp .ne 9, 3) := by decide +kernel
theorem dX56_keep_9 : decode cX56_keep 9 = .ok (.aload_n 0, 1) := by decide +kernel
theorem dX56_keep_10 : decode cX56_keep 10 = .ok (.iconst 1, 1) := by decide +kernel
theorem dX56_keep_11 : decode cX56_keep 11 = .ok (.putfield 184, 3) := by decide +kernel
theorem dX56_keep_14 : decode cX56_keep 14 = .ok (.return_, 1) := by decide +kernel
theorem dX56_keep_15 : decode cX56_keep 15 = .ok (.aload_n 0, 1) := by decide +kernel
theorem dX56_keep_16 : decode cX56_keep 16 = .ok (.getfield 64, 3) := by decide +kernel
theorem dX56_keep_19 : decode cX56_keep 19 = .ok (.aload_n 0, 1) := by decide +kernel
theorem dX56_keep_20 : decode cX56_keep 20 = .ok (.getfield 181, 3) := by decide +kernel
theorem dX56_keep_23 : decode cX56_keep 23 = .ok (.iload_n 1, 1) := by decide +kernel
theorem dX56_keep_24 : decode cX56_keep 24 = .ok (.iastore, 1) := by decide +kernel
theorem dX56_keep_25 : decode cX56_keep 25 = .ok (.aload_n 0, 1) := by decide +kernel
theorem dX56_keep_26 : decode cX56_keep 26 = .ok (.getfield 67, 3) := by decide +kernel
theorem dX56_keep_29 : decode cX56_keep 29 = .ok (.aload_n 0, 1) := by decide +kernel
theorem dX56_keep_30 : decode cX56_keep 30 = .ok (.getfield 181, 3) := by decide +kernel
theorem dX56_keep_33 : decode cX56_keep 33 = .ok (.iload_n 2, 1) := by decide +kernel
theorem dX56_keep_34 : decode cX56_keep 34 = .ok (.iastore, 1) := by decide +kernel
theorem dX56_keep_35 : decode cX56_keep 35 = .ok (.aload_n 0, 1) := by decide +kernel
theorem dX56_keep_36 : decode cX56_keep 36 = .ok (.getfield 61, 3) := by decide +kernel
theorem dX56_keep_39 : decode cX56_keep 39 = .ok (.aload_n 0, 1) := by decide +kernel
theorem dX56_keep_40 : decode cX56_keep 40 = .ok (.getfield 181, 3) := by decide +kernel
theorem dX56_keep_43 : decode cX56_keep 43 = .ok (.aload_n 0, 1) := by decide +kernel
theorem dX56_keep_44 : decode cX56_keep 44 = .ok (.getfield 134, 3) := by decide +kernel
theorem dX56_keep_47 : decode cX56_keep 47 = .ok (.iastore, 1) := by decide +kernel
theorem dX56_keep_48 : decode cX56_keep 48 = .ok (.iconst 0, 1) := by decide +kernel
theorem dX56_keep_49 : decode cX56_keep 49 = .ok (.istore_n 3, 1) := by decide +kernel
theorem dX56_keep_50 : decode cX56_keep 50 = .ok (.iload_n 3, 1) := by decide +kernel
theorem dX56_keep_51 : decode cX56_keep 51 = .ok (.aload_n 0, 1) := by decide +kernel
theorem dX56_keep_52 : decode cX56_keep 52 = .ok (.getfield 134, 3) := by decide +kernel
theorem dX56_keep_55 : decode cX56_keep 55 = .ok (.if_icmp .ge 28, 3) := by decide +kernel
theorem dX56_keep_58 : decode cX56_keep 58 = .ok (.aload_n 0, 1) := by decide +kernel
theorem dX56_keep_59 : decode cX56_keep 59 = .ok (.getfield 70, 3) := by decide +kernel
theorem dX56_keep_62 : decode cX56_keep 62 = .ok (.iconst 4, 1) := by decide +kernel
theorem dX56_keep_63 : decode cX56_keep 63 = .ok (.aload_n 0, 1) := by decide +kernel
theorem dX56_keep_64 : decode cX56_keep 64 = .ok (.getfield 181, 3) := by decide +kernel
theorem dX56_keep_67 : decode cX56_keep 67 = .ok (.imul, 1) := by decide +kernel
theorem dX56_keep_68 : decode cX56_keep 68 = .ok (.iload_n 3, 1) := by decide +kernel
theorem dX56_keep_69 : decode cX56_keep 69 = .ok (.iadd, 1) := by decide +kernel
theorem dX56_keep_70 : decode cX56_keep 70 = .ok (.aload_n 0, 1) := by decide +kernel
theorem dX56_keep_71 : decode cX56_keep 71 = .ok (.getfield 55, 3) := by decide +kernel
theorem dX56_keep_74 : decode cX56_keep 74 = .ok (.iload_n 3, 1) := by decide +kernel
theorem dX56_keep_75 : decode cX56_keep 75 = .ok (.iaload, 1) := by decide +kernel
theorem dX56_keep_76 : decode cX56_keep 76 = .ok (.iastore, 1) := by decide +kernel
theorem dX56_keep_77 : decode cX56_keep 77 = .ok (.iinc 3 1, 3) := by decide +kernel
theorem dX56_keep_80 : decode cX56_keep 80 = .ok (.goto (-30), 3) := by decide +kernel
theorem dX56_keep_83 : decode cX56_keep 83 = .ok (.aload_n 0, 1) := by decide +kernel
theorem dX56_keep_84 : decode cX56_keep 84 = .ok (.dup, 1) := by decide +kernel
theorem dX56_keep_85 : decode cX56_keep 85 = .ok (.getfield 181, 3) := by decide +kernel
theorem dX56_keep_88 : decode cX56_keep 88 = .ok (.iconst 1, 1) := by decide +kernel
theorem dX56_keep_89 : decode cX56_keep 89 = .ok (.iadd, 1) := by decide +kernel
theorem dX56_keep_90 : decode cX56_keep 90 = .ok (.putfield 181, 3) := by decide +kernel
theorem dX56_keep_93 : decode cX56_keep 93 = .ok (.return_, 1) := by decide +kernel
abbrev cX56_rewriteSort : ByteArray := prog_86_method_27_code
def yX56_rewriteSort : MethodName := ⟨RX56, "rewriteSort", "(III)V"⟩
theorem dX56_rewriteSort_0 : decode cX56_rewriteSort 0 = .ok (.aload_n 0, 1) := by decide +kernel
theorem dX56_rewriteSort_1 : decode cX56_rewriteSort 1 = .ok (.iload_n 1, 1) := by decide +kernel
theorem dX56_rewriteSort_2 : decode cX56_rewriteSort 2 = .ok (.invokevirtual 187, 3) := by decide +kernel
theorem dX56_rewriteSort_5 : decode cX56_rewriteSort 5 = .ok (.aload_n 0, 1) := by decide +kernel
theorem dX56_rewriteSort_6 : decode cX56_rewriteSort 6 = .ok (.getfield 16, 3) := by decide +kernel
theorem dX56_rewriteSort_9 : decode cX56_rewriteSort 9 = .ok (.iload_n 3, 1) := by decide +kernel
theorem dX56_rewriteSort_10 : decode cX56_rewriteSort 10 = .ok (.iaload, 1) := by decide +kernel
theorem dX56_rewriteSort_11 : decode cX56_rewriteSort 11 = .ok (.istore 4, 2) := by decide +kernel
theorem dX56_rewriteSort_13 : decode cX56_rewriteSort 13 = .ok (.iconst (-1), 1) := by decide +kernel
theorem dX56_rewriteSort_14 : decode cX56_rewriteSort 14 = .ok (.istore 5, 2) := by decide +kernel
theorem dX56_rewriteSort_16 : decode cX56_rewriteSort 16 = .ok (.iload 4, 2) := by decide +kernel
theorem dX56_rewriteSort_18 : decode cX56_rewriteSort 18 = .ok (.bipush 20, 2) := by decide +kernel
theorem dX56_rewriteSort_20 : decode cX56_rewriteSort 20 = .ok (.if_icmp .ge 29, 3) := by decide +kernel
theorem dX56_rewriteSort_23 : decode cX56_rewriteSort 23 = .ok (.aload_n 0, 1) := by decide +kernel
theorem dX56_rewriteSort_24 : decode cX56_rewriteSort 24 = .ok (.getfield 43, 3) := by decide +kernel
theorem dX56_rewriteSort_27 : decode cX56_rewriteSort 27 = .ok (.iload_n 2, 1) := by decide +kernel
theorem dX56_rewriteSort_28 : decode cX56_rewriteSort 28 = .ok (.iaload, 1) := by decide +kernel
theorem dX56_rewriteSort_29 : decode cX56_rewriteSort 29 = .ok (.iload 4, 2) := by decide +kernel
theorem dX56_rewriteSort_31 : decode cX56_rewriteSort 31 = .ok (.if_icmp .ne 12, 3) := by decide +kernel
theorem dX56_rewriteSort_34 : decode cX56_rewriteSort 34 = .ok (.aload_n 0, 1) := by decide +kernel
theorem dX56_rewriteSort_35 : decode cX56_rewriteSort 35 = .ok (.getfield 46, 3) := by decide +kernel
theorem dX56_rewriteSort_38 : decode cX56_rewriteSort 38 = .ok (.iload_n 2, 1) := by decide +kernel
theorem dX56_rewriteSort_39 : decode cX56_rewriteSort 39 = .ok (.iaload, 1) := by decide +kernel
theorem dX56_rewriteSort_40 : decode cX56_rewriteSort 40 = .ok (.goto 4, 3) := by decide +kernel
theorem dX56_rewriteSort_43 : decode cX56_rewriteSort 43 = .ok (.iconst (-1), 1) := by decide +kernel
theorem dX56_rewriteSort_44 : decode cX56_rewriteSort 44 = .ok (.istore 5, 2) := by decide +kernel
theorem dX56_rewriteSort_46 : decode cX56_rewriteSort 46 = .ok (.goto 80, 3) := by decide +kernel
theorem dX56_rewriteSort_49 : decode cX56_rewriteSort 49 = .ok (.aload_n 0, 1) := by decide +kernel
theorem dX56_rewriteSort_50 : decode cX56_rewriteSort 50 = .ok (.getfield 43, 3) := by decide +kernel
theorem dX56_rewriteSort_53 : decode cX56_rewriteSort 53 = .ok (.iload_n 2, 1) := by decide +kernel
theorem dX56_rewriteSort_54 : decode cX56_rewriteSort 54 = .ok (.iaload, 1) := by decide +kernel
theorem dX56_rewriteSort_55 : decode cX56_rewriteSort 55 = .ok (.bipush 32, 2) := by decide +kernel
theorem dX56_rewriteSort_57 : decode cX56_rewriteSort 57 = .ok (.iload 4, 2) := by decide +kernel
theorem dX56_rewriteSort_59 : decode cX56_rewriteSort 59 = .ok (.bipush 20, 2) := by decide +kernel
theorem dX56_rewriteSort_61 : decode cX56_rewriteSort 61 = .ok (.isub, 1) := by decide +kernel
theorem dX56_rewriteSort_62 : decode cX56_rewriteSort 62 = .ok (.iconst 2, 1) := by decide +kernel
theorem dX56_rewriteSort_63 : decode cX56_rewriteSort 63 = .ok (.idiv, 1) := by decide +kernel
theorem dX56_rewriteSort_64 : decode cX56_rewriteSort 64 = .ok (.iadd, 1) := by decide +kernel
theorem dX56_rewriteSort_65 : decode cX56_rewriteSort 65 = .ok (.if_icmp .ne 61, 3) := by decide +kernel
theorem dX56_rewriteSort_68 : decode cX56_rewriteSort 68 = .ok (.iload 4, 2) := by decide +kernel
theorem dX56_rewriteSort_70 : decode cX56_rewriteSort 70 = .ok (.iconst 2, 1) := by decide +kernel
theorem dX56_rewriteSort_71 : decode cX56_rewriteSort 71 = .ok (.irem, 1) := by decide +kernel
theorem dX56_rewriteSort_72 : decode cX56_rewriteSort 72 = .ok (.ifCond .ne 23, 3) := by decide +kernel
theorem dX56_rewriteSort_75 : decode cX56_rewriteSort 75 = .ok (.aload_n 0, 1) := by decide +kernel
theorem dX56_rewriteSort_76 : decode cX56_rewriteSort 76 = .ok (.getfield 49, 3) := by decide +kernel
theorem dX56_rewriteSort_79 : decode cX56_rewriteSort 79 = .ok (.iload_n 2, 1) := by decide +kernel
theorem dX56_rewriteSort_80 : decode cX56_rewriteSort 80 = .ok (.iaload, 1) := by decide +kernel
theorem dX56_rewriteSort_81 : decode cX56_rewriteSort 81 = .ok (.bipush 6, 2) := by decide +kernel
theorem dX56_rewriteSort_83 : decode cX56_rewriteSort 83 = .ok (.if_icmp .ne 12, 3) := by decide +kernel
theorem dX56_rewriteSort_86 : decode cX56_rewriteSort 86 = .ok (.aload_n 0, 1) := by decide +kernel
theorem dX56_rewriteSort_87 : decode cX56_rewriteSort 87 = .ok (.getfield 46, 3) := by decide +kernel
theorem dX56_rewriteSort_90 : decode cX56_rewriteSort 90 = .ok (.iload_n 2, 1) := by decide +kernel
theorem dX56_rewriteSort_91 : decode cX56_rewriteSort 91 = .ok (.iaload, 1) := by decide +kernel
theorem dX56_rewriteSort_92 : decode cX56_rewriteSort 92 = .ok (.goto 32, 3) := by decide +kernel
theorem dX56_rewriteSort_95 : decode cX56_rewriteSort 95 = .ok (.iload 4, 2) := by decide +kernel
theorem dX56_rewriteSort_97 : decode cX56_rewriteSort 97 = .ok (.iconst 2, 1) := by decide +kernel
theorem dX56_rewriteSort_98 : decode cX56_rewriteSort 98 = .ok (.irem, 1) := by decide +kernel
theorem dX56_rewriteSort_99 : decode cX56_rewriteSort 99 = .ok (.iconst 1, 1) := by decide +kernel
theorem dX56_rewriteSort_100 : decode cX56_rewriteSort 100 = .ok (.if_icmp .ne 23, 3) := by decide +kernel
theorem dX56_rewriteSort_103 : decode cX56_rewriteSort 103 = .ok (.aload_n 0, 1) := by decide +kernel
theorem dX56_rewriteSort_104 : decode cX56_rewriteSort 104 = .ok (.getfield 46, 3) := by decide +kernel
theorem dX56_rewriteSort_107 : decode cX56_rewriteSort 107 = .ok (.iload_n 2, 1) := by decide +kernel
theorem dX56_rewriteSort_108 : decode cX56_rewriteSort 108 = .ok (.iaload, 1) := by decide +kernel
theorem dX56_rewriteSort_109 : decode cX56_rewriteSort 109 = .ok (.bipush 6, 2) := by decide +kernel
theorem dX56_rewriteSort_111 : decode cX56_rewriteSort 111 = .ok (.if_icmp .ne 12, 3) := by decide +kernel
theorem dX56_rewriteSort_114 : decode cX56_rewriteSort 114 = .ok (.aload_n 0, 1) := by decide +kernel
theorem dX56_rewriteSort_115 : decode cX56_rewriteSort 115 = .ok (.getfield 49, 3) := by decide +kernel
theorem dX56_rewriteSort_118 : decode cX56_rewriteSort 118 = .ok (.iload_n 2, 1) := by decide +kernel
theorem dX56_rewriteSort_119 : decode cX56_rewriteSort 119 = .ok (.iaload, 1) := by decide +kernel
theorem dX56_rewriteSort_120 : decode cX56_rewriteSort 120 = .ok (.goto 4, 3) := by decide +kernel
theorem dX56_rewriteSort_123 : decode cX56_rewriteSort 123 = .ok (.iconst (-1), 1) := by decide +kernel
theorem dX56_rewriteSort_124 : decode cX56_rewriteSort 124 = .ok (.istore 5, 2) := by decide +kernel
theorem dX56_rewriteSort_126 : decode cX56_rewriteSort 126 = .ok (.iload 5, 2) := by decide +kernel
theorem dX56_rewriteSort_128 : decode cX56_rewriteSort 128 = .ok (.ifCond .ge 4, 3) := by decide +kernel
theorem dX56_rewriteSort_131 : decode cX56_rewriteSort 131 = .ok (.return_, 1) := by decide +kernel
theorem dX56_rewriteSort_132 : decode cX56_rewriteSort 132 = .ok (.aload_n 0, 1) := by decide +kernel
theorem dX56_rewriteSort_133 : decode cX56_rewriteSort 133 = .ok (.getfield 13, 3) := by decide +kernel
theorem dX56_rewriteSort_136 : decode cX56_rewriteSort 136 = .ok (.iload_n 3, 1) := by decide +kernel
theorem dX56_rewriteSort_137 : decode cX56_rewriteSort 137 = .ok (.iaload, 1) := by decide +kernel
theorem dX56_rewriteSort_138 : decode cX56_rewriteSort 138 = .ok (.istore 6, 2) := by decide +kernel
theorem dX56_rewriteSort_140 : decode cX56_rewriteSort 140 = .ok (.aload_n 0, 1) := by decide +kernel
theorem dX56_rewriteSort_141 : decode cX56_rewriteSort 141 = .ok (.getfield 43, 3) := by decide +kernel
theorem dX56_rewriteSort_144 : decode cX56_rewriteSort 144 = .ok (.iload_n 2, 1) := by decide +kernel
theorem dX56_rewriteSort_145 : decode cX56_rewriteSort 145 = .ok (.iload 6, 2) := by decide +kernel
theorem dX56_rewriteSort_147 : decode cX56_rewriteSort 147 = .ok (.bipush 20, 2) := by decide +kernel
theorem dX56_rewriteSort_149 : decode cX56_rewriteSort 149 = .ok (.if_icmp .ge 8, 3) := by decide +kernel
theorem dX56_rewriteSort_152 : decode cX56_rewriteSort 152 = .ok (.iload 6, 2) := by decide +kernel
theorem dX56_rewriteSort_154 : decode cX56_rewriteSort 154 = .ok (.goto 13, 3) := by decide +kernel
theorem dX56_rewriteSort_157 : decode cX56_rewriteSort 157 = .ok (.bipush 32, 2) := by decide +kernel
theorem dX56_rewriteSort_159 : decode cX56_rewriteSort 159 = .ok (.iload 6, 2) := by decide +kernel
theorem dX56_rewriteSort_161 : decode cX56_rewriteSort 161 = .ok (.bipush 20, 2) := by decide +kernel
theorem dX56_rewriteSort_163 : decode cX56_rewriteSort 163 = .ok (.isub, 1) := by decide +kernel
theorem dX56_rewriteSort_164 : decode cX56_rewriteSort 164 = .ok (.iconst 2, 1) := by decide +kernel
theorem dX56_rewriteSort_165 : decode cX56_rewriteSort 165 = .ok (.idiv, 1) := by decide +kernel
theorem dX56_rewriteSort_166 : decode cX56_rewriteSort 166 = .ok (.iadd, 1) := by decide +kernel
theorem dX56_rewriteSort_167 : decode cX56_rewriteSort 167 = .ok (.iastore, 1) := by decide +kernel
theorem dX56_rewriteSort_168 : decode cX56_rewriteSort 168 = .ok (.aload_n 0, 1) := by decide +kernel
theorem dX56_rewriteSort_169 : decode cX56_rewriteSort 169 = .ok (.getfield 46, 3) := by decide +kernel
theorem dX56_rewriteSort_172 : decode cX56_rewriteSort 172 = .ok (.iload_n 2, 1) := by decide +kernel
theorem dX56_rewriteSort_173 : decode cX56_rewriteSort 173 = .ok (.iload 6, 2) := by decide +kernel
theorem dX56_rewriteSort_175 : decode cX56_rewriteSort 175 = .ok (.bipush 20, 2) := by decide +kernel
theorem dX56_rewriteSort_177 : decode cX56_rewriteSort 177 = .ok (.if_icmp .lt 16, 3) := by decide +kernel
theorem dX56_rewriteSort_180 : decode cX56_rewriteSort 180 = .ok (.iload 6, 2) := by decide +kernel
theorem dX56_rewriteSort_182 : decode cX56_rewriteSort 182 = .ok (.iconst 2, 1) := by decide +kernel
theorem dX56_rewriteSort_183 : decode cX56_rewriteSort 183 = .ok (.irem, 1) := by decide +kernel
theorem dX56_rewriteSort_184 : decode cX56_rewriteSort 184 = .ok (.iconst 1, 1) := by decide +kernel
theorem dX56_rewriteSort_185 : decode cX56_rewriteSort 185 = .ok (.if_icmp .ne 8, 3) := by decide +kernel
theorem dX56_rewriteSort_188 : decode cX56_rewriteSort 188 = .ok (.bipush 6, 2) := by decide +kernel
theorem dX56_rewriteSort_190 : decode cX56_rewriteSort 190 = .ok (.goto 5, 3) := by decide +kernel
theorem dX56_rewriteSort_193 : decode cX56_rewriteSort 193 = .ok (.iload 5, 2) := by decide +kernel
theorem dX56_rewriteSort_195 : decode cX56_rewriteSort 195 = .ok (.iastore, 1) := by decide +kernel
theorem dX56_rewriteSort_196 : decode cX56_rewriteSort 196 = .ok (.aload_n 0, 1) := by decide +kernel
theorem dX56_rewriteSort_197 : decode cX56_rewriteSort 197 = .ok (.getfield 49, 3) := by decide +kernel
theorem dX56_rewriteSort_200 : decode cX56_rewriteSort 200 = .ok (.iload_n 2, 1) := by decide +kernel
theorem dX56_rewriteSort_201 : decode cX56_rewriteSort 201 = .ok (.iload 6, 2) := by decide +kernel
theorem dX56_rewriteSort_203 : decode cX56_rewriteSort 203 = .ok (.bipush 20, 2) := by decide +kernel
theorem dX56_rewriteSort_205 : decode cX56_rewriteSort 205 = .ok (.if_icmp .ge 8, 3) := by decide +kernel
theorem dX56_rewriteSort_208 : decode cX56_rewriteSort 208 = .ok (.bipush 7, 2) := by decide +kernel
theorem dX56_rewriteSort_210 : decode cX56_rewriteSort 210 = .ok (.goto 17, 3) := by decide +kernel
theorem dX56_rewriteSort_213 : decode cX56_rewriteSort 213 = .ok (.iload 6, 2) := by decide +kernel
theorem dX56_rewriteSort_215 : decode cX56_rewriteSort 215 = .ok (.iconst 2, 1) := by decide +kernel
theorem dX56_rewriteSort_216 : decode cX56_rewriteSort 216 = .ok (.irem, 1) := by decide +kernel
theorem dX56_rewriteSort_217 : decode cX56_rewriteSort 217 = .ok (.ifCond .ne 8, 3) := by decide +kernel
theorem dX56_rewriteSort_220 : decode cX56_rewriteSort 220 = .ok (.bipush 6, 2) := by decide +kernel
theorem dX56_rewriteSort_222 : decode cX56_rewriteSort 222 = .ok (.goto 5, 3) := by decide +kernel
theorem dX56_rewriteSort_225 : decode cX56_rewriteSort 225 = .ok (.iload 5, 2) := by decide +kernel
theorem dX56_rewriteSort_227 : decode cX56_rewriteSort 227 = .ok (.iastore, 1) := by decide +kernel
theorem dX56_rewriteSort_228 : decode cX56_rewriteSort 228 = .ok (.aload_n 0, 1) := by decide +kernel
theorem dX56_rewriteSort_229 : decode cX56_rewriteSort 229 = .ok (.invokevirtual 190, 3) := by decide +kernel
theorem dX56_rewriteSort_232 : decode cX56_rewriteSort 232 = .ok (.return_, 1) := by decide +kernel
abbrev cX56_load : ByteArray := prog_86_method_15_code
def yX56_load : MethodName := ⟨RX56, "load", "(I)V"⟩
theorem dX56_load_0 : decode cX56_load 0 = .ok (.aload_n 0, 1) := by decide +kernel
theorem dX56_load_1 : decode cX56_load 1 = .ok (.aload_n 0, 1) := by decide +kernel
theorem dX56_load_2 : decode cX56_load 2 = .ok (.getfield 64, 3) := by decide +kernel
theorem dX56_load_5 : decode cX56_load 5 = .ok (.iload_n 1, 1) := by decide +kernel
theorem dX56_load_6 : decode cX56_load 6 = .ok (.iaload, 1) := by decide +kernel
theorem dX56_load_7 : decode cX56_load 7 = .ok (.aload_n 0, 1) := by decide +kernel
theorem dX56_load_8 : decode cX56_load 8 = .ok (.getfield 67, 3) := by decide +kernel
theorem dX56_load_11 : decode cX56_load 11 = .ok (.iload_n 1, 1) := by decide +kernel
theorem dX56_load_12 : decode cX56_load 12 = .ok (.iaload, 1) := by decide +kernel
theorem dX56_load_13 : decode cX56_load 13 = .ok (.invokevirtual 137, 3) := by decide +kernel
theorem dX56_load_16 : decode cX56_load 16 = .ok (.iconst 0, 1) := by decide +kernel
theorem dX56_load_17 : decode cX56_load 17 = .ok (.istore_n 2, 1) := by decide +kernel
theorem dX56_load_18 : decode cX56_load 18 = .ok (.iload_n 2, 1) := by decide +kernel
theorem dX56_load_19 : decode cX56_load 19 = .ok (.aload_n 0, 1) := by decide +kernel
theorem dX56_load_20 : decode cX56_load 20 = .ok (.getfield 61, 3) := by decide +kernel
theorem dX56_load_23 : decode cX56_load 23 = .ok (.iload_n 1, 1) := by decide +kernel
theorem dX56_load_24 : decode cX56_load 24 = .ok (.iaload, 1) := by decide +kernel
theorem dX56_load_25 : decode cX56_load 25 = .ok (.if_icmp .ge 39, 3) := by decide +kernel
theorem dX56_load_28 : decode cX56_load 28 = .ok (.aload_n 0, 1) := by decide +kernel
theorem dX56_load_29 : decode cX56_load 29 = .ok (.getfield 70, 3) := by decide +kernel
theorem dX56_load_32 : decode cX56_load 32 = .ok (.iconst 4, 1) := by decide +kernel
theorem dX56_load_33 : decode cX56_load 33 = .ok (.iload_n 1, 1) := by decide +kernel
theorem dX56_load_34 : decode cX56_load 34 = .ok (.imul, 1) := by decide +kernel
theorem dX56_load_35 : decode cX56_load 35 = .ok (.iload_n 2, 1) := by decide +kernel
theorem dX56_load_36 : decode cX56_load 36 = .ok (.iadd, 1) := by decide +kernel
theorem dX56_load_37 : decode cX56_load 37 = .ok (.iaload, 1) := by decide +kernel
theorem dX56_load_38 : decode cX56_load 38 = .ok (.istore_n 3, 1) := by decide +kernel
theorem dX56_load_39 : decode cX56_load 39 = .ok (.aload_n 0, 1) := by decide +kernel
theorem dX56_load_40 : decode cX56_load 40 = .ok (.iload_n 3, 1) := by decide +kernel
theorem dX56_load_41 : decode cX56_load 41 = .ok (.bipush 64, 2) := by decide +kernel
theorem dX56_load_43 : decode cX56_load 43 = .ok (.idiv, 1) := by decide +kernel
theorem dX56_load_44 : decode cX56_load 44 = .ok (.iload_n 3, 1) := by decide +kernel
theorem dX56_load_45 : decode cX56_load 45 = .ok (.bipush 8, 2) := by decide +kernel
theorem dX56_load_47 : decode cX56_load 47 = .ok (.idiv, 1) := by decide +kernel
theorem dX56_load_48 : decode cX56_load 48 = .ok (.bipush 8, 2) := by decide +kernel
theorem dX56_load_50 : decode cX56_load 50 = .ok (.irem, 1) := by decide +kernel
theorem dX56_load_51 : decode cX56_load 51 = .ok (.iload_n 3, 1) := by decide +kernel
theorem dX56_load_52 : decode cX56_load 52 = .ok (.bipush 8, 2) := by decide +kernel
theorem dX56_load_54 : decode cX56_load 54 = .ok (.irem, 1) := by decide +kernel
theorem dX56_load_55 : decode cX56_load 55 = .ok (.invokevirtual 141, 3) := by decide +kernel
theorem dX56_load_58 : decode cX56_load 58 = .ok (.iinc 2 1, 3) := by decide +kernel
theorem dX56_load_61 : decode cX56_load 61 = .ok (.goto (-43), 3) := by decide +kernel
theorem dX56_load_64 : decode cX56_load 64 = .ok (.return_, 1) := by decide +kernel
abbrev cX56_rewriteWay : ByteArray := prog_86_method_28_code
def yX56_rewriteWay : MethodName := ⟨RX56, "rewriteWay", "(III)V"⟩
theorem dX56_rewriteWay_0 : decode cX56_rewriteWay 0 = .ok (.aload_n 0, 1) := by decide +kernel
theorem dX56_rewriteWay_1 : decode cX56_rewriteWay 1 = .ok (.iload_n 1, 1) := by decide +kernel
theorem dX56_rewriteWay_2 : decode cX56_rewriteWay 2 = .ok (.invokevirtual 187, 3) := by decide +kernel
theorem dX56_rewriteWay_5 : decode cX56_rewriteWay 5 = .ok (.aload_n 0, 1) := by decide +kernel
theorem dX56_rewriteWay_6 : decode cX56_rewriteWay 6 = .ok (.getfield 43, 3) := by decide +kernel
theorem dX56_rewriteWay_9 : decode cX56_rewriteWay 9 = .ok (.iload_n 2, 1) := by decide +kernel
theorem dX56_rewriteWay_10 : decode cX56_rewriteWay 10 = .ok (.iaload, 1) := by decide +kernel
theorem dX56_rewriteWay_11 : decode cX56_rewriteWay 11 = .ok (.bipush 32, 2) := by decide +kernel
theorem dX56_rewriteWay_13 : decode cX56_rewriteWay 13 = .ok (.aload_n 0, 1) := by decide +kernel
theorem dX56_rewriteWay_14 : decode cX56_rewriteWay 14 = .ok (.getfield 16, 3) := by decide +kernel
theorem dX56_rewriteWay_17 : decode cX56_rewriteWay 17 = .ok (.iload_n 3, 1) := by decide +kernel
theorem dX56_rewriteWay_18 : decode cX56_rewriteWay 18 = .ok (.iaload, 1) := by decide +kernel
theorem dX56_rewriteWay_19 : decode cX56_rewriteWay 19 = .ok (.iconst 2, 1) := by decide +kernel
theorem dX56_rewriteWay_20 : decode cX56_rewriteWay 20 = .ok (.idiv, 1) := by decide +kernel
theorem dX56_rewriteWay_21 : decode cX56_rewriteWay 21 = .ok (.iadd, 1) := by decide +kernel
theorem dX56_rewriteWay_22 : decode cX56_rewriteWay 22 = .ok (.if_icmp .eq 4, 3) := by decide +kernel
theorem dX56_rewriteWay_25 : decode cX56_rewriteWay 25 = .ok (.return_, 1) := by decide +kernel
theorem dX56_rewriteWay_26 : decode cX56_rewriteWay 26 = .ok (.aload_n 0, 1) := by decide +kernel
theorem dX56_rewriteWay_27 : decode cX56_rewriteWay 27 = .ok (.getfield 43, 3) := by decide +kernel
theorem dX56_rewriteWay_30 : decode cX56_rewriteWay 30 = .ok (.iload_n 2, 1) := by decide +kernel
theorem dX56_rewriteWay_31 : decode cX56_rewriteWay 31 = .ok (.bipush 32, 2) := by decide +kernel
theorem dX56_rewriteWay_33 : decode cX56_rewriteWay 33 = .ok (.aload_n 0, 1) := by decide +kernel
theorem dX56_rewriteWay_34 : decode cX56_rewriteWay 34 = .ok (.getfield 13, 3) := by decide +kernel
theorem dX56_rewriteWay_37 : decode cX56_rewriteWay 37 = .ok (.iload_n 3, 1) := by decide +kernel
theorem dX56_rewriteWay_38 : decode cX56_rewriteWay 38 = .ok (.iaload, 1) := by decide +kernel
theorem dX56_rewriteWay_39 : decode cX56_rewriteWay 39 = .ok (.iconst 2, 1) := by decide +kernel
theorem dX56_rewriteWay_40 : decode cX56_rewriteWay 40 = .ok (.idiv, 1) := by decide +kernel
theorem dX56_rewriteWay_41 : decode cX56_rewriteWay 41 = .ok (.iadd, 1) := by decide +kernel
theorem dX56_rewriteWay_42 : decode cX56_rewriteWay 42 = .ok (.iastore, 1) := by decide +kernel
theorem dX56_rewriteWay_43 : decode cX56_rewriteWay 43 = .ok (.aload_n 0, 1) := by decide +kernel
theorem dX56_rewriteWay_44 : decode cX56_rewriteWay 44 = .ok (.getfield 13, 3) := by decide +kernel
theorem dX56_rewriteWay_47 : decode cX56_rewriteWay 47 = .ok (.iload_n 3, 1) := by decide +kernel
theorem dX56_rewriteWay_48 : decode cX56_rewriteWay 48 = .ok (.iaload, 1) := by decide +kernel
theorem dX56_rewriteWay_49 : decode cX56_rewriteWay 49 = .ok (.iconst 2, 1) := by decide +kernel
theorem dX56_rewriteWay_50 : decode cX56_rewriteWay 50 = .ok (.irem, 1) := by decide +kernel
theorem dX56_rewriteWay_51 : decode cX56_rewriteWay 51 = .ok (.aload_n 0, 1) := by decide +kernel
theorem dX56_rewriteWay_52 : decode cX56_rewriteWay 52 = .ok (.getfield 16, 3) := by decide +kernel
theorem dX56_rewriteWay_55 : decode cX56_rewriteWay 55 = .ok (.iload_n 3, 1) := by decide +kernel
theorem dX56_rewriteWay_56 : decode cX56_rewriteWay 56 = .ok (.iaload, 1) := by decide +kernel
theorem dX56_rewriteWay_57 : decode cX56_rewriteWay 57 = .ok (.iconst 2, 1) := by decide +kernel
theorem dX56_rewriteWay_58 : decode cX56_rewriteWay 58 = .ok (.irem, 1) := by decide +kernel
theorem dX56_rewriteWay_59 : decode cX56_rewriteWay 59 = .ok (.if_icmp .eq 31, 3) := by decide +kernel
theorem dX56_rewriteWay_62 : decode cX56_rewriteWay 62 = .ok (.aload_n 0, 1) := by decide +kernel
theorem dX56_rewriteWay_63 : decode cX56_rewriteWay 63 = .ok (.getfield 46, 3) := by decide +kernel
theorem dX56_rewriteWay_66 : decode cX56_rewriteWay 66 = .ok (.iload_n 2, 1) := by decide +kernel
theorem dX56_rewriteWay_67 : decode cX56_rewriteWay 67 = .ok (.iaload, 1) := by decide +kernel
theorem dX56_rewriteWay_68 : decode cX56_rewriteWay 68 = .ok (.istore 4, 2) := by decide +kernel
theorem dX56_rewriteWay_70 : decode cX56_rewriteWay 70 = .ok (.aload_n 0, 1) := by decide +kernel
theorem dX56_rewriteWay_71 : decode cX56_rewriteWay 71 = .ok (.getfield 46, 3) := by decide +kernel
theorem dX56_rewriteWay_74 : decode cX56_rewriteWay 74 = .ok (.iload_n 2, 1) := by decide +kernel
theorem dX56_rewriteWay_75 : decode cX56_rewriteWay 75 = .ok (.aload_n 0, 1) := by decide +kernel
theorem dX56_rewriteWay_76 : decode cX56_rewriteWay 76 = .ok (.getfield 49, 3) := by decide +kernel
theorem dX56_rewriteWay_79 : decode cX56_rewriteWay 79 = .ok (.iload_n 2, 1) := by decide +kernel
theorem dX56_rewriteWay_80 : decode cX56_rewriteWay 80 = .ok (.iaload, 1) := by decide +kernel
theorem dX56_rewriteWay_81 : decode cX56_rewriteWay 81 = .ok (.iastore, 1) := by decide +kernel
theorem dX56_rewriteWay_82 : decode cX56_rewriteWay 82 = .ok (.aload_n 0, 1) := by decide +kernel
theorem dX56_rewriteWay_83 : decode cX56_rewriteWay 83 = .ok (.getfield 49, 3) := by decide +kernel
theorem dX56_rewriteWay_86 : decode cX56_rewriteWay 86 = .ok (.iload_n 2, 1) := by decide +kernel
theorem dX56_rewriteWay_87 : decode cX56_rewriteWay 87 = .ok (.iload 4, 2) := by decide +kernel
theorem dX56_rewriteWay_89 : decode cX56_rewriteWay 89 = .ok (.iastore, 1) := by decide +kernel
theorem dX56_rewriteWay_90 : decode cX56_rewriteWay 90 = .ok (.aload_n 0, 1) := by decide +kernel
theorem dX56_rewriteWay_91 : decode cX56_rewriteWay 91 = .ok (.invokevirtual 190, 3) := by decide +kernel
theorem dX56_rewriteWay_94 : decode cX56_rewriteWay 94 = .ok (.return_, 1) := by decide +kernel
abbrev cX56_unite : ByteArray := prog_86_method_30_code
def yX56_unite : MethodName := ⟨RX56, "unite", "(III)V"⟩
theorem dX56_unite_0 : decode cX56_unite 0 = .ok (.aload_n 0, 1) := by decide +kernel
theorem dX56_unite_1 : decode cX56_unite 1 = .ok (.iload_n 1, 1) := by decide +kernel
theorem dX56_unite_2 : decode cX56_unite 2 = .ok (.invokevirtual 187, 3) := by decide +kernel
theorem dX56_unite_5 : decode cX56_unite 5 = .ok (.aload_n 0, 1) := by decide +kernel
theorem dX56_unite_6 : decode cX56_unite 6 = .ok (.getfield 43, 3) := by decide +kernel
theorem dX56_unite_9 : decode cX56_unite 9 = .ok (.iload_n 2, 1) := by decide +kernel
theorem dX56_unite_10 : decode cX56_unite 10 = .ok (.iaload, 1) := by decide +kernel
theorem dX56_unite_11 : decode cX56_unite 11 = .ok (.aload_n 0, 1) := by decide +kernel
theorem dX56_unite_12 : decode cX56_unite 12 = .ok (.getfield 43, 3) := by decide +kernel
theorem dX56_unite_15 : decode cX56_unite 15 = .ok (.iload_n 3, 1) := by decide +kernel
theorem dX56_unite_16 : decode cX56_unite 16 = .ok (.iaload, 1) := by decide +kernel
theorem dX56_unite_17 : decode cX56_unite 17 = .ok (.if_icmp .eq 4, 3) := by decide +kernel
theorem dX56_unite_20 : decode cX56_unite 20 = .ok (.return_, 1) := by decide +kernel
theorem dX56_unite_21 : decode cX56_unite 21 = .ok (.aload_n 0, 1) := by decide +kernel
theorem dX56_unite_22 : decode cX56_unite 22 = .ok (.getfield 46, 3) := by decide +kernel
theorem dX56_unite_25 : decode cX56_unite 25 = .ok (.iload_n 2, 1) := by decide +kernel
theorem dX56_unite_26 : decode cX56_unite 26 = .ok (.iaload, 1) := by decide +kernel
theorem dX56_unite_27 : decode cX56_unite 27 = .ok (.bipush 6, 2) := by decide +kernel
theorem dX56_unite_29 : decode cX56_unite 29 = .ok (.if_icmp .eq 14, 3) := by decide +kernel
theorem dX56_unite_32 : decode cX56_unite 32 = .ok (.aload_n 0, 1) := by decide +kernel
theorem dX56_unite_33 : decode cX56_unite 33 = .ok (.getfield 46, 3) := by decide +kernel
theorem dX56_unite_36 : decode cX56_unite 36 = .ok (.iload_n 3, 1) := by decide +kernel
theorem dX56_unite_37 : decode cX56_unite 37 = .ok (.iaload, 1) := by decide +kernel
theorem dX56_unite_38 : decode cX56_unite 38 = .ok (.bipush 6, 2) := by decide +kernel
theorem dX56_unite_40 : decode cX56_unite 40 = .ok (.if_icmp .ne 50, 3) := by decide +kernel
theorem dX56_unite_43 : decode cX56_unite 43 = .ok (.aload_n 0, 1) := by decide +kernel
theorem dX56_unite_44 : decode cX56_unite 44 = .ok (.getfield 46, 3) := by decide +kernel
theorem dX56_unite_47 : decode cX56_unite 47 = .ok (.iload_n 2, 1) := by decide +kernel
theorem dX56_unite_48 : decode cX56_unite 48 = .ok (.iaload, 1) := by decide +kernel
theorem dX56_unite_49 : decode cX56_unite 49 = .ok (.bipush 6, 2) := by decide +kernel
theorem dX56_unite_51 : decode cX56_unite 51 = .ok (.if_icmp .ne 12, 3) := by decide +kernel
theorem dX56_unite_54 : decode cX56_unite 54 = .ok (.aload_n 0, 1) := by decide +kernel
theorem dX56_unite_55 : decode cX56_unite 55 = .ok (.getfield 46, 3) := by decide +kernel
theorem dX56_unite_58 : decode cX56_unite 58 = .ok (.iload_n 3, 1) := by decide +kernel
theorem dX56_unite_59 : decode cX56_unite 59 = .ok (.iaload, 1) := by decide +kernel
theorem dX56_unite_60 : decode cX56_unite 60 = .ok (.goto 9, 3) := by decide +kernel
theorem dX56_unite_63 : decode cX56_unite 63 = .ok (.aload_n 0, 1) := by decide +kernel
theorem dX56_unite_64 : decode cX56_unite 64 = .ok (.getfield 46, 3) := by decide +kernel
theorem dX56_unite_67 : decode cX56_unite 67 = .ok (.iload_n 2, 1) := by decide +kernel
theorem dX56_unite_68 : decode cX56_unite 68 = .ok (.iaload, 1) := by decide +kernel
theorem dX56_unite_69 : decode cX56_unite 69 = .ok (.istore 4, 2) := by decide +kernel
theorem dX56_unite_71 : decode cX56_unite 71 = .ok (.aload_n 0, 1) := by decide +kernel
theorem dX56_unite_72 : decode cX56_unite 72 = .ok (.getfield 46, 3) := by decide +kernel
theorem dX56_unite_75 : decode cX56_unite 75 = .ok (.iload_n 2, 1) := by decide +kernel
theorem dX56_unite_76 : decode cX56_unite 76 = .ok (.iload 4, 2) := by decide +kernel
theorem dX56_unite_78 : decode cX56_unite 78 = .ok (.iastore, 1) := by decide +kernel
theorem dX56_unite_79 : decode cX56_unite 79 = .ok (.aload_n 0, 1) := by decide +kernel
theorem dX56_unite_80 : decode cX56_unite 80 = .ok (.getfield 46, 3) := by decide +kernel
theorem dX56_unite_83 : decode cX56_unite 83 = .ok (.iload_n 3, 1) := by decide +kernel
theorem dX56_unite_84 : decode cX56_unite 84 = .ok (.iload 4, 2) := by decide +kernel
theorem dX56_unite_86 : decode cX56_unite 86 = .ok (.iastore, 1) := by decide +kernel
theorem dX56_unite_87 : decode cX56_unite 87 = .ok (.goto 82, 3) := by decide +kernel
theorem dX56_unite_90 : decode cX56_unite 90 = .ok (.aload_n 0, 1) := by decide +kernel
theorem dX56_unite_91 : decode cX56_unite 91 = .ok (.getfield 46, 3) := by decide +kernel
theorem dX56_unite_94 : decode cX56_unite 94 = .ok (.iload_n 2, 1) := by decide +kernel
theorem dX56_unite_95 : decode cX56_unite 95 = .ok (.iaload, 1) := by decide +kernel
theorem dX56_unite_96 : decode cX56_unite 96 = .ok (.aload_n 0, 1) := by decide +kernel
theorem dX56_unite_97 : decode cX56_unite 97 = .ok (.getfield 46, 3) := by decide +kernel
theorem dX56_unite_100 : decode cX56_unite 100 = .ok (.iload_n 3, 1) := by decide +kernel
theorem dX56_unite_101 : decode cX56_unite 101 = .ok (.iaload, 1) := by decide +kernel
theorem dX56_unite_102 : decode cX56_unite 102 = .ok (.if_icmp .eq 67, 3) := by decide +kernel
theorem dX56_unite_105 : decode cX56_unite 105 = .ok (.aload_n 0, 1) := by decide +kernel
theorem dX56_unite_106 : decode cX56_unite 106 = .ok (.aload_n 0, 1) := by decide +kernel
theorem dX56_unite_107 : decode cX56_unite 107 = .ok (.getfield 46, 3) := by decide +kernel
theorem dX56_unite_110 : decode cX56_unite 110 = .ok (.iload_n 2, 1) := by decide +kernel
theorem dX56_unite_111 : decode cX56_unite 111 = .ok (.iaload, 1) := by decide +kernel
theorem dX56_unite_112 : decode cX56_unite 112 = .ok (.aload_n 0, 1) := by decide +kernel
theorem dX56_unite_113 : decode cX56_unite 113 = .ok (.getfield 46, 3) := by decide +kernel
theorem dX56_unite_116 : decode cX56_unite 116 = .ok (.iload_n 3, 1) := by decide +kernel
theorem dX56_unite_117 : decode cX56_unite 117 = .ok (.iaload, 1) := by decide +kernel
theorem dX56_unite_118 : decode cX56_unite 118 = .ok (.if_icmp .le 12, 3) := by decide +kernel
theorem dX56_unite_121 : decode cX56_unite 121 = .ok (.aload_n 0, 1) := by decide +kernel
theorem dX56_unite_122 : decode cX56_unite 122 = .ok (.getfield 46, 3) := by decide +kernel
theorem dX56_unite_125 : decode cX56_unite 125 = .ok (.iload_n 2, 1) := by decide +kernel
theorem dX56_unite_126 : decode cX56_unite 126 = .ok (.iaload, 1) := by decide +kernel
theorem dX56_unite_127 : decode cX56_unite 127 = .ok (.goto 9, 3) := by decide +kernel
theorem dX56_unite_130 : decode cX56_unite 130 = .ok (.aload_n 0, 1) := by decide +kernel
theorem dX56_unite_131 : decode cX56_unite 131 = .ok (.getfield 46, 3) := by decide +kernel
theorem dX56_unite_134 : decode cX56_unite 134 = .ok (.iload_n 3, 1) := by decide +kernel
theorem dX56_unite_135 : decode cX56_unite 135 = .ok (.iaload, 1) := by decide +kernel
theorem dX56_unite_136 : decode cX56_unite 136 = .ok (.aload_n 0, 1) := by decide +kernel
theorem dX56_unite_137 : decode cX56_unite 137 = .ok (.getfield 46, 3) := by decide +kernel
theorem dX56_unite_140 : decode cX56_unite 140 = .ok (.iload_n 2, 1) := by decide +kernel
theorem dX56_unite_141 : decode cX56_unite 141 = .ok (.iaload, 1) := by decide +kernel
theorem dX56_unite_142 : decode cX56_unite 142 = .ok (.aload_n 0, 1) := by decide +kernel
theorem dX56_unite_143 : decode cX56_unite 143 = .ok (.getfield 46, 3) := by decide +kernel
theorem dX56_unite_146 : decode cX56_unite 146 = .ok (.iload_n 3, 1) := by decide +kernel
theorem dX56_unite_147 : decode cX56_unite 147 = .ok (.iaload, 1) := by decide +kernel
theorem dX56_unite_148 : decode cX56_unite 148 = .ok (.if_icmp .le 12, 3) := by decide +kernel
theorem dX56_unite_151 : decode cX56_unite 151 = .ok (.aload_n 0, 1) := by decide +kernel
theorem dX56_unite_152 : decode cX56_unite 152 = .ok (.getfield 46, 3) := by decide +kernel
theorem dX56_unite_155 : decode cX56_unite 155 = .ok (.iload_n 3, 1) := by decide +kernel
theorem dX56_unite_156 : decode cX56_unite 156 = .ok (.iaload, 1) := by decide +kernel
theorem dX56_unite_157 : decode cX56_unite 157 = .ok (.goto 9, 3) := by decide +kernel
theorem dX56_unite_160 : decode cX56_unite 160 = .ok (.aload_n 0, 1) := by decide +kernel
theorem dX56_unite_161 : decode cX56_unite 161 = .ok (.getfield 46, 3) := by decide +kernel
theorem dX56_unite_164 : decode cX56_unite 164 = .ok (.iload_n 2, 1) := by decide +kernel
theorem dX56_unite_165 : decode cX56_unite 165 = .ok (.iaload, 1) := by decide +kernel
theorem dX56_unite_166 : decode cX56_unite 166 = .ok (.invokevirtual 193, 3) := by decide +kernel
theorem dX56_unite_169 : decode cX56_unite 169 = .ok (.aload_n 0, 1) := by decide +kernel
theorem dX56_unite_170 : decode cX56_unite 170 = .ok (.getfield 49, 3) := by decide +kernel
theorem dX56_unite_173 : decode cX56_unite 173 = .ok (.iload_n 2, 1) := by decide +kernel
theorem dX56_unite_174 : decode cX56_unite 174 = .ok (.iaload, 1) := by decide +kernel
theorem dX56_unite_175 : decode cX56_unite 175 = .ok (.bipush 6, 2) := by decide +kernel
theorem dX56_unite_177 : decode cX56_unite 177 = .ok (.if_icmp .eq 14, 3) := by decide +kernel
theorem dX56_unite_180 : decode cX56_unite 180 = .ok (.aload_n 0, 1) := by decide +kernel
theorem dX56_unite_181 : decode cX56_unite 181 = .ok (.getfield 49, 3) := by decide +kernel
theorem dX56_unite_184 : decode cX56_unite 184 = .ok (.iload_n 3, 1) := by decide +kernel
theorem dX56_unite_185 : decode cX56_unite 185 = .ok (.iaload, 1) := by decide +kernel
theorem dX56_unite_186 : decode cX56_unite 186 = .ok (.bipush 6, 2) := by decide +kernel
theorem dX56_unite_188 : decode cX56_unite 188 = .ok (.if_icmp .ne 50, 3) := by decide +kernel
theorem dX56_unite_191 : decode cX56_unite 191 = .ok (.aload_n 0, 1) := by decide +kernel
theorem dX56_unite_192 : decode cX56_unite 192 = .ok (.getfield 49, 3) := by decide +kernel
theorem dX56_unite_195 : decode cX56_unite 195 = .ok (.iload_n 2, 1) := by decide +kernel
theorem dX56_unite_196 : decode cX56_unite 196 = .ok (.iaload, 1) := by decide +kernel
theorem dX56_unite_197 : decode cX56_unite 197 = .ok (.bipush 6, 2) := by decide +kernel
theorem dX56_unite_199 : decode cX56_unite 199 = .ok (.if_icmp .ne 12, 3) := by decide +kernel
theorem dX56_unite_202 : decode cX56_unite 202 = .ok (.aload_n 0, 1) := by decide +kernel
theorem dX56_unite_203 : decode cX56_unite 203 = .ok (.getfield 49, 3) := by decide +kernel
theorem dX56_unite_206 : decode cX56_unite 206 = .ok (.iload_n 3, 1) := by decide +kernel
theorem dX56_unite_207 : decode cX56_unite 207 = .ok (.iaload, 1) := by decide +kernel
theorem dX56_unite_208 : decode cX56_unite 208 = .ok (.goto 9, 3) := by decide +kernel
theorem dX56_unite_211 : decode cX56_unite 211 = .ok (.aload_n 0, 1) := by decide +kernel
theorem dX56_unite_212 : decode cX56_unite 212 = .ok (.getfield 49, 3) := by decide +kernel
theorem dX56_unite_215 : decode cX56_unite 215 = .ok (.iload_n 2, 1) := by decide +kernel
theorem dX56_unite_216 : decode cX56_unite 216 = .ok (.iaload, 1) := by decide +kernel
theorem dX56_unite_217 : decode cX56_unite 217 = .ok (.istore 4, 2) := by decide +kernel
theorem dX56_unite_219 : decode cX56_unite 219 = .ok (.aload_n 0, 1) := by decide +kernel
theorem dX56_unite_220 : decode cX56_unite 220 = .ok (.getfield 49, 3) := by decide +kernel
theorem dX56_unite_223 : decode cX56_unite 223 = .ok (.iload_n 2, 1) := by decide +kernel
theorem dX56_unite_224 : decode cX56_unite 224 = .ok (.iload 4, 2) := by decide +kernel
theorem dX56_unite_226 : decode cX56_unite 226 = .ok (.iastore, 1) := by decide +kernel
theorem dX56_unite_227 : decode cX56_unite 227 = .ok (.aload_n 0, 1) := by decide +kernel
theorem dX56_unite_228 : decode cX56_unite 228 = .ok (.getfield 49, 3) := by decide +kernel
theorem dX56_unite_231 : decode cX56_unite 231 = .ok (.iload_n 3, 1) := by decide +kernel
theorem dX56_unite_232 : decode cX56_unite 232 = .ok (.iload 4, 2) := by decide +kernel
theorem dX56_unite_234 : decode cX56_unite 234 = .ok (.iastore, 1) := by decide +kernel
theorem dX56_unite_235 : decode cX56_unite 235 = .ok (.goto 82, 3) := by decide +kernel
theorem dX56_unite_238 : decode cX56_unite 238 = .ok (.aload_n 0, 1) := by decide +kernel
theorem dX56_unite_239 : decode cX56_unite 239 = .ok (.getfield 49, 3) := by decide +kernel
theorem dX56_unite_242 : decode cX56_unite 242 = .ok (.iload_n 2, 1) := by decide +kernel
theorem dX56_unite_243 : decode cX56_unite 243 = .ok (.iaload, 1) := by decide +kernel
theorem dX56_unite_244 : decode cX56_unite 244 = .ok (.aload_n 0, 1) := by decide +kernel
theorem dX56_unite_245 : decode cX56_unite 245 = .ok (.getfield 49, 3) := by decide +kernel
theorem dX56_unite_248 : decode cX56_unite 248 = .ok (.iload_n 3, 1) := by decide +kernel
theorem dX56_unite_249 : decode cX56_unite 249 = .ok (.iaload, 1) := by decide +kernel
theorem dX56_unite_250 : decode cX56_unite 250 = .ok (.if_icmp .eq 67, 3) := by decide +kernel
theorem dX56_unite_253 : decode cX56_unite 253 = .ok (.aload_n 0, 1) := by decide +kernel
theorem dX56_unite_254 : decode cX56_unite 254 = .ok (.aload_n 0, 1) := by decide +kernel
theorem dX56_unite_255 : decode cX56_unite 255 = .ok (.getfield 49, 3) := by decide +kernel
theorem dX56_unite_258 : decode cX56_unite 258 = .ok (.iload_n 2, 1) := by decide +kernel
theorem dX56_unite_259 : decode cX56_unite 259 = .ok (.iaload, 1) := by decide +kernel
theorem dX56_unite_260 : decode cX56_unite 260 = .ok (.aload_n 0, 1) := by decide +kernel
theorem dX56_unite_261 : decode cX56_unite 261 = .ok (.getfield 49, 3) := by decide +kernel
theorem dX56_unite_264 : decode cX56_unite 264 = .ok (.iload_n 3, 1) := by decide +kernel
theorem dX56_unite_265 : decode cX56_unite 265 = .ok (.iaload, 1) := by decide +kernel
theorem dX56_unite_266 : decode cX56_unite 266 = .ok (.if_icmp .le 12, 3) := by decide +kernel
theorem dX56_unite_269 : decode cX56_unite 269 = .ok (.aload_n 0, 1) := by decide +kernel
theorem dX56_unite_270 : decode cX56_unite 270 = .ok (.getfield 49, 3) := by decide +kernel
theorem dX56_unite_273 : decode cX56_unite 273 = .ok (.iload_n 2, 1) := by decide +kernel
theorem dX56_unite_274 : decode cX56_unite 274 = .ok (.iaload, 1) := by decide +kernel
theorem dX56_unite_275 : decode cX56_unite 275 = .ok (.goto 9, 3) := by decide +kernel
theorem dX56_unite_278 : decode cX56_unite 278 = .ok (.aload_n 0, 1) := by decide +kernel
theorem dX56_unite_279 : decode cX56_unite 279 = .ok (.getfield 49, 3) := by decide +kernel
theorem dX56_unite_282 : decode cX56_unite 282 = .ok (.iload_n 3, 1) := by decide +kernel
theorem dX56_unite_283 : decode cX56_unite 283 = .ok (.iaload, 1) := by decide +kernel
theorem dX56_unite_284 : decode cX56_unite 284 = .ok (.aload_n 0, 1) := by decide +kernel
theorem dX56_unite_285 : decode cX56_unite 285 = .ok (.getfield 49, 3) := by decide +kernel
theorem dX56_unite_288 : decode cX56_unite 288 = .ok (.iload_n 2, 1) := by decide +kernel
theorem dX56_unite_289 : decode cX56_unite 289 = .ok (.iaload, 1) := by decide +kernel
theorem dX56_unite_290 : decode cX56_unite 290 = .ok (.aload_n 0, 1) := by decide +kernel
theorem dX56_unite_291 : decode cX56_unite 291 = .ok (.getfield 49, 3) := by decide +kernel
theorem dX56_unite_294 : decode cX56_unite 294 = .ok (.iload_n 3, 1) := by decide +kernel
theorem dX56_unite_295 : decode cX56_unite 295 = .ok (.iaload, 1) := by decide +kernel
theorem dX56_unite_296 : decode cX56_unite 296 = .ok (.if_icmp .le 12, 3) := by decide +kernel
theorem dX56_unite_299 : decode cX56_unite 299 = .ok (.aload_n 0, 1) := by decide +kernel
theorem dX56_unite_300 : decode cX56_unite 300 = .ok (.getfield 49, 3) := by decide +kernel
theorem dX56_unite_303 : decode cX56_unite 303 = .ok (.iload_n 3, 1) := by decide +kernel
theorem dX56_unite_304 : decode cX56_unite 304 = .ok (.iaload, 1) := by decide +kernel
theorem dX56_unite_305 : decode cX56_unite 305 = .ok (.goto 9, 3) := by decide +kernel
theorem dX56_unite_308 : decode cX56_unite 308 = .ok (.aload_n 0, 1) := by decide +kernel
theorem dX56_unite_309 : decode cX56_unite 309 = .ok (.getfield 49, 3) := by decide +kernel
theorem dX56_unite_312 : decode cX56_unite 312 = .ok (.iload_n 2, 1) := by decide +kernel
theorem dX56_unite_313 : decode cX56_unite 313 = .ok (.iaload, 1) := by decide +kernel
theorem dX56_unite_314 : decode cX56_unite 314 = .ok (.invokevirtual 193, 3) := by decide +kernel
theorem dX56_unite_317 : decode cX56_unite 317 = .ok (.aload_n 0, 1) := by decide +kernel
theorem dX56_unite_318 : decode cX56_unite 318 = .ok (.invokevirtual 190, 3) := by decide +kernel
theorem dX56_unite_321 : decode cX56_unite 321 = .ok (.return_, 1) := by decide +kernel
abbrev cX56_rename : ByteArray := prog_86_method_29_code
def yX56_rename : MethodName := ⟨RX56, "rename", "(II)V"⟩
theorem dX56_rename_0 : decode cX56_rename 0 = .ok (.iconst 0, 1) := by decide +kernel
theorem dX56_rename_1 : decode cX56_rename 1 = .ok (.istore_n 3, 1) := by decide +kernel
theorem dX56_rename_2 : decode cX56_rename 2 = .ok (.iload_n 3, 1) := by decide +kernel
theorem dX56_rename_3 : decode cX56_rename 3 = .ok (.aload_n 0, 1) := by decide +kernel
theorem dX56_rename_4 : decode cX56_rename 4 = .ok (.getfield 134, 3) := by decide +kernel
theorem dX56_rename_7 : decode cX56_rename 7 = .ok (.if_icmp .ge 61, 3) := by decide +kernel
theorem dX56_rename_10 : decode cX56_rename 10 = .ok (.aload_n 0, 1) := by decide +kernel
theorem dX56_rename_11 : decode cX56_rename 11 = .ok (.getfield 46, 3) := by decide +kernel
theorem dX56_rename_14 : decode cX56_rename 14 = .ok (.iload_n 3, 1) := by decide +kernel
theorem dX56_rename_15 : decode cX56_rename 15 = .ok (.aload_n 0, 1) := by decide +kernel
theorem dX56_rename_16 : decode cX56_rename 16 = .ok (.getfield 46, 3) := by decide +kernel
theorem dX56_rename_19 : decode cX56_rename 19 = .ok (.iload_n 3, 1) := by decide +kernel
theorem dX56_rename_20 : decode cX56_rename 20 = .ok (.iaload, 1) := by decide +kernel
theorem dX56_rename_21 : decode cX56_rename 21 = .ok (.iload_n 1, 1) := by decide +kernel
theorem dX56_rename_22 : decode cX56_rename 22 = .ok (.if_icmp .ne 7, 3) := by decide +kernel
theorem dX56_rename_25 : decode cX56_rename 25 = .ok (.iload_n 2, 1) := by decide +kernel
theorem dX56_rename_26 : decode cX56_rename 26 = .ok (.goto 9, 3) := by decide +kernel
theorem dX56_rename_29 : decode cX56_rename 29 = .ok (.aload_n 0, 1) := by decide +kernel
theorem dX56_rename_30 : decode cX56_rename 30 = .ok (.getfield 46, 3) := by decide +kernel
theorem dX56_rename_33 : decode cX56_rename 33 = .ok (.iload_n 3, 1) := by decide +kernel
theorem dX56_rename_34 : decode cX56_rename 34 = .ok (.iaload, 1) := by decide +kernel
theorem dX56_rename_35 : decode cX56_rename 35 = .ok (.iastore, 1) := by decide +kernel
theorem dX56_rename_36 : decode cX56_rename 36 = .ok (.aload_n 0, 1) := by decide +kernel
theorem dX56_rename_37 : decode cX56_rename 37 = .ok (.getfield 49, 3) := by decide +kernel
theorem dX56_rename_40 : decode cX56_rename 40 = .ok (.iload_n 3, 1) := by decide +kernel
theorem dX56_rename_41 : decode cX56_rename 41 = .ok (.aload_n 0, 1) := by decide +kernel
theorem dX56_rename_42 : decode cX56_rename 42 = .ok (.getfield 49, 3) := by decide +kernel
theorem dX56_rename_45 : decode cX56_rename 45 = .ok (.iload_n 3, 1) := by decide +kernel
theorem dX56_rename_46 : decode cX56_rename 46 = .ok (.iaload, 1) := by decide +kernel
theorem dX56_rename_47 : decode cX56_rename 47 = .ok (.iload_n 1, 1) := by decide +kernel
theorem dX56_rename_48 : decode cX56_rename 48 = .ok (.if_icmp .ne 7, 3) := by decide +kernel
theorem dX56_rename_51 : decode cX56_rename 51 = .ok (.iload_n 2, 1) := by decide +kernel
theorem dX56_rename_52 : decode cX56_rename 52 = .ok (.goto 9, 3) := by decide +kernel
theorem dX56_rename_55 : decode cX56_rename 55 = .ok (.aload_n 0, 1) := by decide +kernel
theorem dX56_rename_56 : decode cX56_rename 56 = .ok (.getfield 49, 3) := by decide +kernel
theorem dX56_rename_59 : decode cX56_rename 59 = .ok (.iload_n 3, 1) := by decide +kernel
theorem dX56_rename_60 : decode cX56_rename 60 = .ok (.iaload, 1) := by decide +kernel
theorem dX56_rename_61 : decode cX56_rename 61 = .ok (.iastore, 1) := by decide +kernel
theorem dX56_rename_62 : decode cX56_rename 62 = .ok (.iinc 3 1, 3) := by decide +kernel
theorem dX56_rename_65 : decode cX56_rename 65 = .ok (.goto (-63), 3) := by decide +kernel
theorem dX56_rename_68 : decode cX56_rename 68 = .ok (.aload_n 0, 1) := by decide +kernel
theorem dX56_rename_69 : decode cX56_rename 69 = .ok (.aload_n 0, 1) := by decide +kernel
theorem dX56_rename_70 : decode cX56_rename 70 = .ok (.getfield 128, 3) := by decide +kernel
theorem dX56_rename_73 : decode cX56_rename 73 = .ok (.iload_n 1, 1) := by decide +kernel
theorem dX56_rename_74 : decode cX56_rename 74 = .ok (.if_icmp .ne 7, 3) := by decide +kernel
theorem dX56_rename_77 : decode cX56_rename 77 = .ok (.iload_n 2, 1) := by decide +kernel
theorem dX56_rename_78 : decode cX56_rename 78 = .ok (.goto 7, 3) := by decide +kernel
theorem dX56_rename_81 : decode cX56_rename 81 = .ok (.aload_n 0, 1) := by decide +kernel
theorem dX56_rename_82 : decode cX56_rename 82 = .ok (.getfield 128, 3) := by decide +kernel
theorem dX56_rename_85 : decode cX56_rename 85 = .ok (.putfield 128, 3) := by decide +kernel
theorem dX56_rename_88 : decode cX56_rename 88 = .ok (.aload_n 0, 1) := by decide +kernel
theorem dX56_rename_89 : decode cX56_rename 89 = .ok (.aload_n 0, 1) := by decide +kernel
theorem dX56_rename_90 : decode cX56_rename 90 = .ok (.getfield 131, 3) := by decide +kernel
theorem dX56_rename_93 : decode cX56_rename 93 = .ok (.iload_n 1, 1) := by decide +kernel
theorem dX56_rename_94 : decode cX56_rename 94 = .ok (.if_icmp .ne 7, 3) := by decide +kernel
theorem dX56_rename_97 : decode cX56_rename 97 = .ok (.iload_n 2, 1) := by decide +kernel
theorem dX56_rename_98 : decode cX56_rename 98 = .ok (.goto 7, 3) := by decide +kernel
theorem dX56_rename_101 : decode cX56_rename 101 = .ok (.aload_n 0, 1) := by decide +kernel
theorem dX56_rename_102 : decode cX56_rename 102 = .ok (.getfield 131, 3) := by decide +kernel
theorem dX56_rename_105 : decode cX56_rename 105 = .ok (.putfield 131, 3) := by decide +kernel
theorem dX56_rename_108 : decode cX56_rename 108 = .ok (.return_, 1) := by decide +kernel
abbrev cX56_form : ByteArray := prog_86_method_39_code
def yX56_form : MethodName := ⟨RX56, "form", "(III)I"⟩
theorem dX56_form_0 : decode cX56_form 0 = .ok (.aload_n 0, 1) := by decide +kernel
theorem dX56_form_1 : decode cX56_form 1 = .ok (.iload_n 1, 1) := by decide +kernel
theorem dX56_form_2 : decode cX56_form 2 = .ok (.invokevirtual 221, 3) := by decide +kernel
theorem dX56_form_5 : decode cX56_form 5 = .ok (.istore 4, 2) := by decide +kernel
theorem dX56_form_7 : decode cX56_form 7 = .ok (.iload 4, 2) := by decide +kernel
theorem dX56_form_9 : decode cX56_form 9 = .ok (.ifCond .ge 6, 3) := by decide +kernel
theorem dX56_form_12 : decode cX56_form 12 = .ok (.iload 4, 2) := by decide +kernel
theorem dX56_form_14 : decode cX56_form 14 = .ok (.ireturn, 1) := by decide +kernel
theorem dX56_form_15 : decode cX56_form 15 = .ok (.iload_n 2, 1) := by decide +kernel
theorem dX56_form_16 : decode cX56_form 16 = .ok (.aload_n 0, 1) := by decide +kernel
theorem dX56_form_17 : decode cX56_form 17 = .ok (.getfield 181, 3) := by decide +kernel
theorem dX56_form_20 : decode cX56_form 20 = .ok (.invokestatic 92, 3) := by decide +kernel
theorem dX56_form_23 : decode cX56_form 23 = .ok (.ifCond .eq 12, 3) := by decide +kernel
theorem dX56_form_26 : decode cX56_form 26 = .ok (.iload_n 3, 1) := by decide +kernel
theorem dX56_form_27 : decode cX56_form 27 = .ok (.bipush 7, 2) := by decide +kernel
theorem dX56_form_29 : decode cX56_form 29 = .ok (.invokestatic 92, 3) := by decide +kernel
theorem dX56_form_32 : decode cX56_form 32 = .ok (.ifCond .ne 5, 3) := by decide +kernel
theorem dX56_form_35 : decode cX56_form 35 = .ok (.iconst (-1), 1) := by decide +kernel
theorem dX56_form_36 : decode cX56_form 36 = .ok (.ireturn, 1) := by decide +kernel
theorem dX56_form_37 : decode cX56_form 37 = .ok (.iload_n 3, 1) := by decide +kernel
theorem dX56_form_38 : decode cX56_form 38 = .ok (.ifCond .ne 10, 3) := by decide +kernel
theorem dX56_form_41 : decode cX56_form 41 = .ok (.aload_n 0, 1) := by decide +kernel
theorem dX56_form_42 : decode cX56_form 42 = .ok (.getfield 61, 3) := by decide +kernel
theorem dX56_form_45 : decode cX56_form 45 = .ok (.iload_n 2, 1) := by decide +kernel
theorem dX56_form_46 : decode cX56_form 46 = .ok (.iaload, 1) := by decide +kernel
theorem dX56_form_47 : decode cX56_form 47 = .ok (.ireturn, 1) := by decide +kernel
theorem dX56_form_48 : decode cX56_form 48 = .ok (.iload_n 3, 1) := by decide +kernel
theorem dX56_form_49 : decode cX56_form 49 = .ok (.iconst 3, 1) := by decide +kernel
theorem dX56_form_50 : decode cX56_form 50 = .ok (.if_icmp .ge 24, 3) := by decide +kernel
theorem dX56_form_53 : decode cX56_form 53 = .ok (.iload_n 3, 1) := by decide +kernel
theorem dX56_form_54 : decode cX56_form 54 = .ok (.iconst 1, 1) := by decide +kernel
theorem dX56_form_55 : decode cX56_form 55 = .ok (.if_icmp .ne 12, 3) := by decide +kernel
theorem dX56_form_58 : decode cX56_form 58 = .ok (.aload_n 0, 1) := by decide +kernel
theorem dX56_form_59 : decode cX56_form 59 = .ok (.getfield 64, 3) := by decide +kernel
theorem dX56_form_62 : decode cX56_form 62 = .ok (.iload_n 2, 1) := by decide +kernel
theorem dX56_form_63 : decode cX56_form 63 = .ok (.iaload, 1) := by decide +kernel
theorem dX56_form_64 : decode cX56_form 64 = .ok (.goto 9, 3) := by decide +kernel
theorem dX56_form_67 : decode cX56_form 67 = .ok (.aload_n 0, 1) := by decide +kernel
theorem dX56_form_68 : decode cX56_form 68 = .ok (.getfield 67, 3) := by decide +kernel
theorem dX56_form_71 : decode cX56_form 71 = .ok (.iload_n 2, 1) := by decide +kernel
theorem dX56_form_72 : decode cX56_form 72 = .ok (.iaload, 1) := by decide +kernel
theorem dX56_form_73 : decode cX56_form 73 = .ok (.ireturn, 1) := by decide +kernel
theorem dX56_form_74 : decode cX56_form 74 = .ok (.iload_n 3, 1) := by decide +kernel
theorem dX56_form_75 : decode cX56_form 75 = .ok (.iconst 3, 1) := by decide +kernel
theorem dX56_form_76 : decode cX56_form 76 = .ok (.isub, 1) := by decide +kernel
theorem dX56_form_77 : decode cX56_form 77 = .ok (.aload_n 0, 1) := by decide +kernel
theorem dX56_form_78 : decode cX56_form 78 = .ok (.getfield 61, 3) := by decide +kernel
theorem dX56_form_81 : decode cX56_form 81 = .ok (.iload_n 2, 1) := by decide +kernel
theorem dX56_form_82 : decode cX56_form 82 = .ok (.iaload, 1) := by decide +kernel
theorem dX56_form_83 : decode cX56_form 83 = .ok (.if_icmp .ge 18, 3) := by decide +kernel
theorem dX56_form_86 : decode cX56_form 86 = .ok (.aload_n 0, 1) := by decide +kernel
theorem dX56_form_87 : decode cX56_form 87 = .ok (.getfield 70, 3) := by decide +kernel
theorem dX56_form_90 : decode cX56_form 90 = .ok (.iconst 4, 1) := by decide +kernel
theorem dX56_form_91 : decode cX56_form 91 = .ok (.iload_n 2, 1) := by decide +kernel
theorem dX56_form_92 : decode cX56_form 92 = .ok (.imul, 1) := by decide +kernel
theorem dX56_form_93 : decode cX56_form 93 = .ok (.iload_n 3, 1) := by decide +kernel
theorem dX56_form_94 : decode cX56_form 94 = .ok (.iadd, 1) := by decide +kernel
theorem dX56_form_95 : decode cX56_form 95 = .ok (.iconst 3, 1) := by decide +kernel
theorem dX56_form_96 : decode cX56_form 96 = .ok (.isub, 1) := by decide +kernel
theorem dX56_form_97 : decode cX56_form 97 = .ok (.iaload, 1) := by decide +kernel
theorem dX56_form_98 : decode cX56_form 98 = .ok (.goto 4, 3) := by decide +kernel
theorem dX56_form_101 : decode cX56_form 101 = .ok (.iconst (-1), 1) := by decide +kernel
theorem dX56_form_102 : decode cX56_form 102 = .ok (.ireturn, 1) := by decide +kernel
abbrev cX56_run : ByteArray := prog_86_method_40_code
def yX56_run : MethodName := ⟨RX56, "run", "(I)I"⟩
theorem dX56_run_0 : decode cX56_run 0 = .ok (.aload_n 0, 1) := by decide +kernel
theorem dX56_run_1 : decode cX56_run 1 = .ok (.iload_n 1, 1) := by decide +kernel
theorem dX56_run_2 : decode cX56_run 2 = .ok (.invokevirtual 221, 3) := by decide +kernel
theorem dX56_run_5 : decode cX56_run 5 = .ok (.istore_n 2, 1) := by decide +kernel
theorem dX56_run_6 : decode cX56_run 6 = .ok (.iload_n 2, 1) := by decide +kernel
theorem dX56_run_7 : decode cX56_run 7 = .ok (.ifCond .ge 5, 3) := by decide +kernel
theorem dX56_run_10 : decode cX56_run 10 = .ok (.iload_n 2, 1) := by decide +kernel
theorem dX56_run_11 : decode cX56_run 11 = .ok (.ireturn, 1) := by decide +kernel
theorem dX56_run_12 : decode cX56_run 12 = .ok (.aload_n 0, 1) := by decide +kernel
theorem dX56_run_13 : decode cX56_run 13 = .ok (.invokevirtual 224, 3) := by decide +kernel
theorem dX56_run_16 : decode cX56_run 16 = .ok (.iconst 0, 1) := by decide +kernel
theorem dX56_run_17 : decode cX56_run 17 = .ok (.istore_n 3, 1) := by decide +kernel
theorem dX56_run_18 : decode cX56_run 18 = .ok (.iconst 0, 1) := by decide +kernel
theorem dX56_run_19 : decode cX56_run 19 = .ok (.istore 4, 2) := by decide +kernel
theorem dX56_run_21 : decode cX56_run 21 = .ok (.iload 4, 2) := by decide +kernel
theorem dX56_run_23 : decode cX56_run 23 = .ok (.sipush 192, 3) := by decide +kernel
theorem dX56_run_26 : decode cX56_run 26 = .ok (.if_icmp .ge 27, 3) := by decide +kernel
theorem dX56_run_29 : decode cX56_run 29 = .ok (.iload_n 3, 1) := by decide +kernel
theorem dX56_run_30 : decode cX56_run 30 = .ok (.aload_n 0, 1) := by decide +kernel
theorem dX56_run_31 : decode cX56_run 31 = .ok (.getfield 77, 3) := by decide +kernel
theorem dX56_run_34 : decode cX56_run 34 = .ok (.iload 4, 2) := by decide +kernel
theorem dX56_run_36 : decode cX56_run 36 = .ok (.iaload, 1) := by decide +kernel
theorem dX56_run_37 : decode cX56_run 37 = .ok (.ifCond .lt 7, 3) := by decide +kernel
theorem dX56_run_40 : decode cX56_run 40 = .ok (.iconst 1, 1) := by decide +kernel
theorem dX56_run_41 : decode cX56_run 41 = .ok (.goto 4, 3) := by decide +kernel
theorem dX56_run_44 : decode cX56_run 44 = .ok (.iconst 0, 1) := by decide +kernel
theorem dX56_run_45 : decode cX56_run 45 = .ok (.iadd, 1) := by decide +kernel
theorem dX56_run_46 : decode cX56_run 46 = .ok (.istore_n 3, 1) := by decide +kernel
theorem dX56_run_47 : decode cX56_run 47 = .ok (.iinc 4 1, 3) := by decide +kernel
theorem dX56_run_50 : decode cX56_run 50 = .ok (.goto (-29), 3) := by decide +kernel
theorem dX56_run_53 : decode cX56_run 53 = .ok (.iload_n 3, 1) := by decide +kernel
theorem dX56_run_54 : decode cX56_run 54 = .ok (.ireturn, 1) := by decide +kernel
abbrev cX56_findAll : ByteArray := prog_86_method_36_code
def yX56_findAll : MethodName := ⟨RX56, "findAll", "()V"⟩
theorem dX56_findAll_0 : decode cX56_findAll 0 = .ok (.aload_n 0, 1) := by decide +kernel
theorem dX56_findAll_1 : decode cX56_findAll 1 = .ok (.getfield 117, 3) := by decide +kernel
theorem dX56_findAll_4 : decode cX56_findAll 4 = .ok (.ifCond .eq 4, 3) := by decide +kernel
theorem dX56_findAll_7 : decode cX56_findAll 7 = .ok (.return_, 1) := by decide +kernel
theorem dX56_findAll_8 : decode cX56_findAll 8 = .ok (.aload_n 0, 1) := by decide +kernel
theorem dX56_findAll_9 : decode cX56_findAll 9 = .ok (.iconst 1, 1) := by decide +kernel
theorem dX56_findAll_10 : decode cX56_findAll 10 = .ok (.putfield 117, 3) := by decide +kernel
theorem dX56_findAll_13 : decode cX56_findAll 13 = .ok (.iconst 0, 1) := by decide +kernel
theorem dX56_findAll_14 : decode cX56_findAll 14 = .ok (.istore_n 1, 1) := by decide +kernel
theorem dX56_findAll_15 : decode cX56_findAll 15 = .ok (.iload_n 1, 1) := by decide +kernel
theorem dX56_findAll_16 : decode cX56_findAll 16 = .ok (.sipush 192, 3) := by decide +kernel
theorem dX56_findAll_19 : decode cX56_findAll 19 = .ok (.if_icmp .ge 16, 3) := by decide +kernel
theorem dX56_findAll_22 : decode cX56_findAll 22 = .ok (.aload_n 0, 1) := by decide +kernel
theorem dX56_findAll_23 : decode cX56_findAll 23 = .ok (.getfield 77, 3) := by decide +kernel
theorem dX56_findAll_26 : decode cX56_findAll 26 = .ok (.iload_n 1, 1) := by decide +kernel
theorem dX56_findAll_27 : decode cX56_findAll 27 = .ok (.iconst (-1), 1) := by decide +kernel
theorem dX56_findAll_28 : decode cX56_findAll 28 = .ok (.iastore, 1) := by decide +kernel
theorem dX56_findAll_29 : decode cX56_findAll 29 = .ok (.iinc 1 1, 3) := by decide +kernel
theorem dX56_findAll_32 : decode cX56_findAll 32 = .ok (.goto (-17), 3) := by decide +kernel
theorem dX56_findAll_35 : decode cX56_findAll 35 = .ok (.iconst 0, 1) := by decide +kernel
theorem dX56_findAll_36 : decode cX56_findAll 36 = .ok (.istore_n 1, 1) := by decide +kernel
theorem dX56_findAll_37 : decode cX56_findAll 37 = .ok (.iload_n 1, 1) := by decide +kernel
theorem dX56_findAll_38 : decode cX56_findAll 38 = .ok (.aload_n 0, 1) := by decide +kernel
theorem dX56_findAll_39 : decode cX56_findAll 39 = .ok (.getfield 181, 3) := by decide +kernel
theorem dX56_findAll_42 : decode cX56_findAll 42 = .ok (.if_icmp .ge 14, 3) := by decide +kernel
theorem dX56_findAll_45 : decode cX56_findAll 45 = .ok (.aload_n 0, 1) := by decide +kernel
theorem dX56_findAll_46 : decode cX56_findAll 46 = .ok (.iload_n 1, 1) := by decide +kernel
theorem dX56_findAll_47 : decode cX56_findAll 47 = .ok (.invokevirtual 215, 3) := by decide +kernel
theorem dX56_findAll_50 : decode cX56_findAll 50 = .ok (.iinc 1 1, 3) := by decide +kernel
theorem dX56_findAll_53 : decode cX56_findAll 53 = .ok (.goto (-16), 3) := by decide +kernel
theorem dX56_findAll_56 : decode cX56_findAll 56 = .ok (.return_, 1) := by decide +kernel
abbrev cX56_find : ByteArray := prog_86_method_34_code
def yX56_find : MethodName := ⟨RX56, "find", "(I)V"⟩
theorem dX56_find_0 : decode cX56_find 0 = .ok (.iconst 0, 1) := by decide +kernel
theorem dX56_find_1 : decode cX56_find 1 = .ok (.istore_n 2, 1) := by decide +kernel
theorem dX56_find_2 : decode cX56_find 2 = .ok (.iload_n 2, 1) := by decide +kernel
theorem dX56_find_3 : decode cX56_find 3 = .ok (.bipush 6, 2) := by decide +kernel
theorem dX56_find_5 : decode cX56_find 5 = .ok (.if_icmp .ge 16, 3) := by decide +kernel
theorem dX56_find_8 : decode cX56_find 8 = .ok (.aload_n 0, 1) := by decide +kernel
theorem dX56_find_9 : decode cX56_find 9 = .ok (.getfield 80, 3) := by decide +kernel
theorem dX56_find_12 : decode cX56_find 12 = .ok (.iload_n 2, 1) := by decide +kernel
theorem dX56_find_13 : decode cX56_find 13 = .ok (.iconst (-1), 1) := by decide +kernel
theorem dX56_find_14 : decode cX56_find 14 = .ok (.iastore, 1) := by decide +kernel
theorem dX56_find_15 : decode cX56_find 15 = .ok (.iinc 2 1, 3) := by decide +kernel
theorem dX56_find_18 : decode cX56_find 18 = .ok (.goto (-16), 3) := by decide +kernel
theorem dX56_find_21 : decode cX56_find 21 = .ok (.iconst 0, 1) := by decide +kernel
theorem dX56_find_22 : decode cX56_find 22 = .ok (.istore_n 2, 1) := by decide +kernel
theorem dX56_find_23 : decode cX56_find 23 = .ok (.aload_n 0, 1) := by decide +kernel
theorem dX56_find_24 : decode cX56_find 24 = .ok (.getfield 83, 3) := by decide +kernel
theorem dX56_find_27 : decode cX56_find 27 = .ok (.iconst 0, 1) := by decide +kernel
theorem dX56_find_28 : decode cX56_find 28 = .ok (.iconst (-1), 1) := by decide +kernel
theorem dX56_find_29 : decode cX56_find 29 = .ok (.iastore, 1) := by decide +kernel
theorem dX56_find_30 : decode cX56_find 30 = .ok (.iload_n 2, 1) := by decide +kernel
theorem dX56_find_31 : decode cX56_find 31 = .ok (.ifCond .lt 132, 3) := by decide +kernel
theorem dX56_find_34 : decode cX56_find 34 = .ok (.aload_n 0, 1) := by decide +kernel
theorem dX56_find_35 : decode cX56_find 35 = .ok (.getfield 70, 3) := by decide +kernel
theorem dX56_find_38 : decode cX56_find 38 = .ok (.iconst 4, 1) := by decide +kernel
theorem dX56_find_39 : decode cX56_find 39 = .ok (.iload_n 1, 1) := by decide +kernel
theorem dX56_find_40 : decode cX56_find 40 = .ok (.imul, 1) := by decide +kernel
theorem dX56_find_41 : decode cX56_find 41 = .ok (.iload_n 2, 1) := by decide +kernel
theorem dX56_find_42 : decode cX56_find 42 = .ok (.iadd, 1) := by decide +kernel
theorem dX56_find_43 : decode cX56_find 43 = .ok (.iaload, 1) := by decide +kernel
theorem dX56_find_44 : decode cX56_find 44 = .ok (.istore_n 3, 1) := by decide +kernel
theorem dX56_find_45 : decode cX56_find 45 = .ok (.aload_n 0, 1) := by decide +kernel
theorem dX56_find_46 : decode cX56_find 46 = .ok (.getfield 83, 3) := by decide +kernel
theorem dX56_find_49 : decode cX56_find 49 = .ok (.iload_n 2, 1) := by decide +kernel
theorem dX56_find_50 : decode cX56_find 50 = .ok (.iaload, 1) := by decide +kernel
theorem dX56_find_51 : decode cX56_find 51 = .ok (.ifCond .lt 9, 3) := by decide +kernel
theorem dX56_find_54 : decode cX56_find 54 = .ok (.aload_n 0, 1) := by decide +kernel
theorem dX56_find_55 : decode cX56_find 55 = .ok (.iload_n 3, 1) := by decide +kernel
theorem dX56_find_56 : decode cX56_find 56 = .ok (.iload_n 2, 1) := by decide +kernel
theorem dX56_find_57 : decode cX56_find 57 = .ok (.invokevirtual 205, 3) := by decide +kernel
theorem dX56_find_60 : decode cX56_find 60 = .ok (.aload_n 0, 1) := by decide +kernel
theorem dX56_find_61 : decode cX56_find 61 = .ok (.getfield 83, 3) := by decide +kernel
theorem dX56_find_64 : decode cX56_find 64 = .ok (.iload_n 2, 1) := by decide +kernel
theorem dX56_find_65 : decode cX56_find 65 = .ok (.dup2, 1) := by decide +kernel
theorem dX56_find_66 : decode cX56_find 66 = .ok (.iaload, 1) := by decide +kernel
theorem dX56_find_67 : decode cX56_find 67 = .ok (.iconst 1, 1) := by decide +kernel
theorem dX56_find_68 : decode cX56_find 68 = .ok (.iadd, 1) := by decide +kernel
theorem dX56_find_69 : decode cX56_find 69 = .ok (.iastore, 1) := by decide +kernel
theorem dX56_find_70 : decode cX56_find 70 = .ok (.aload_n 0, 1) := by decide +kernel
theorem dX56_find_71 : decode cX56_find 71 = .ok (.getfield 83, 3) := by decide +kernel
theorem dX56_find_74 : decode cX56_find 74 = .ok (.iload_n 2, 1) := by decide +kernel
theorem dX56_find_75 : decode cX56_find 75 = .ok (.iaload, 1) := by decide +kernel
theorem dX56_find_76 : decode cX56_find 76 = .ok (.aload_n 0, 1) := by decide +kernel
theorem dX56_find_77 : decode cX56_find 77 = .ok (.getfield 106, 3) := by decide +kernel
theorem dX56_find_80 : decode cX56_find 80 = .ok (.if_icmp .ge 31, 3) := by decide +kernel
theorem dX56_find_83 : decode cX56_find 83 = .ok (.aload_n 0, 1) := by decide +kernel
theorem dX56_find_84 : decode cX56_find 84 = .ok (.iload_n 3, 1) := by decide +kernel
theorem dX56_find_85 : decode cX56_find 85 = .ok (.iload_n 2, 1) := by decide +kernel
theorem dX56_find_86 : decode cX56_find 86 = .ok (.aload_n 0, 1) := by decide +kernel
theorem dX56_find_87 : decode cX56_find 87 = .ok (.getfield 83, 3) := by decide +kernel
theorem dX56_find_90 : decode cX56_find 90 = .ok (.iload_n 2, 1) := by decide +kernel
theorem dX56_find_91 : decode cX56_find 91 = .ok (.iaload, 1) := by decide +kernel
theorem dX56_find_92 : decode cX56_find 92 = .ok (.invokevirtual 208, 3) := by decide +kernel
theorem dX56_find_95 : decode cX56_find 95 = .ok (.ifCond .ne 16, 3) := by decide +kernel
theorem dX56_find_98 : decode cX56_find 98 = .ok (.aload_n 0, 1) := by decide +kernel
theorem dX56_find_99 : decode cX56_find 99 = .ok (.getfield 83, 3) := by decide +kernel
theorem dX56_find_102 : decode cX56_find 102 = .ok (.iload_n 2, 1) := by decide +kernel
theorem dX56_find_103 : decode cX56_find 103 = .ok (.dup2, 1) := by decide +kernel
theorem dX56_find_104 : decode cX56_find 104 = .ok (.iaload, 1) := by decide +kernel
theorem dX56_find_105 : decode cX56_find 105 = .ok (.iconst 1, 1) := by decide +kernel
theorem dX56_find_106 : decode cX56_find 106 = .ok (.iadd, 1) := by decide +kernel
theorem dX56_find_107 : decode cX56_find 107 = .ok (.iastore, 1) := by decide +kernel
theorem dX56_find_108 : decode cX56_find 108 = .ok (.goto (-38), 3) := by decide +kernel
theorem dX56_find_111 : decode cX56_find 111 = .ok (.aload_n 0, 1) := by decide +kernel
theorem dX56_find_112 : decode cX56_find 112 = .ok (.getfield 83, 3) := by decide +kernel
theorem dX56_find_115 : decode cX56_find 115 = .ok (.iload_n 2, 1) := by decide +kernel
theorem dX56_find_116 : decode cX56_find 116 = .ok (.iaload, 1) := by decide +kernel
theorem dX56_find_117 : decode cX56_find 117 = .ok (.aload_n 0, 1) := by decide +kernel
theorem dX56_find_118 : decode cX56_find 118 = .ok (.getfield 106, 3) := by decide +kernel
theorem dX56_find_121 : decode cX56_find 121 = .ok (.if_icmp .ne 9, 3) := by decide +kernel
theorem dX56_find_124 : decode cX56_find 124 = .ok (.iinc 2 (-1), 3) := by decide +kernel
theorem dX56_find_127 : decode cX56_find 127 = .ok (.goto 33, 3) := by decide +kernel
theorem dX56_find_130 : decode cX56_find 130 = .ok (.iload_n 2, 1) := by decide +kernel
theorem dX56_find_131 : decode cX56_find 131 = .ok (.iconst 1, 1) := by decide +kernel
theorem dX56_find_132 : decode cX56_find 132 = .ok (.iadd, 1) := by decide +kernel
theorem dX56_find_133 : decode cX56_find 133 = .ok (.aload_n 0, 1) := by decide +kernel
theorem dX56_find_134 : decode cX56_find 134 = .ok (.getfield 61, 3) := by decide +kernel
theorem dX56_find_137 : decode cX56_find 137 = .ok (.iload_n 1, 1) := by decide +kernel
theorem dX56_find_138 : decode cX56_find 138 = .ok (.iaload, 1) := by decide +kernel
theorem dX56_find_139 : decode cX56_find 139 = .ok (.if_icmp .ge 16, 3) := by decide +kernel
theorem dX56_find_142 : decode cX56_find 142 = .ok (.iinc 2 1, 3) := by decide +kernel
theorem dX56_find_145 : decode cX56_find 145 = .ok (.aload_n 0, 1) := by decide +kernel
theorem dX56_find_146 : decode cX56_find 146 = .ok (.getfield 83, 3) := by decide +kernel
theorem dX56_find_149 : decode cX56_find 149 = .ok (.iload_n 2, 1) := by decide +kernel
theorem dX56_find_150 : decode cX56_find 150 = .ok (.iconst (-1), 1) := by decide +kernel
theorem dX56_find_151 : decode cX56_find 151 = .ok (.iastore, 1) := by decide +kernel
theorem dX56_find_152 : decode cX56_find 152 = .ok (.goto 8, 3) := by decide +kernel
theorem dX56_find_155 : decode cX56_find 155 = .ok (.aload_n 0, 1) := by decide +kernel
theorem dX56_find_156 : decode cX56_find 156 = .ok (.iload_n 1, 1) := by decide +kernel
theorem dX56_find_157 : decode cX56_find 157 = .ok (.invokevirtual 212, 3) := by decide +kernel
theorem dX56_find_160 : decode cX56_find 160 = .ok (.goto (-130), 3) := by decide +kernel
theorem dX56_find_163 : decode cX56_find 163 = .ok (.return_, 1) := by decide +kernel
abbrev cX56_undo : ByteArray := prog_86_method_33_code
def yX56_undo : MethodName := ⟨RX56, "undo", "(II)V"⟩
theorem dX56_undo_0 : decode cX56_undo 0 = .ok (.iload_n 1, 1) := by decide +kernel
theorem dX56_undo_1 : decode cX56_undo 1 = .ok (.bipush 8, 2) := by decide +kernel
theorem dX56_undo_3 : decode cX56_undo 3 = .ok (.irem, 1) := by decide +kernel
theorem dX56_undo_4 : decode cX56_undo 4 = .ok (.bipush 6, 2) := by decide +kernel
theorem dX56_undo_6 : decode cX56_undo 6 = .ok (.if_icmp .ge 18, 3) := by decide +kernel
theorem dX56_undo_9 : decode cX56_undo 9 = .ok (.aload_n 0, 1) := by decide +kernel
theorem dX56_undo_10 : decode cX56_undo 10 = .ok (.getfield 80, 3) := by decide +kernel
theorem dX56_undo_13 : decode cX56_undo 13 = .ok (.iload_n 1, 1) := by decide +kernel
theorem dX56_undo_14 : decode cX56_undo 14 = .ok (.bipush 8, 2) := by decide +kernel
theorem dX56_undo_16 : decode cX56_undo 16 = .ok (.irem, 1) := by decide +kernel
theorem dX56_undo_17 : decode cX56_undo 17 = .ok (.aload_n 0, 1) := by decide +kernel
theorem dX56_undo_18 : decode cX56_undo 18 = .ok (.getfield 89, 3) := by decide +kernel
theorem dX56_undo_21 : decode cX56_undo 21 = .ok (.iload_n 2, 1) := by decide +kernel
theorem dX56_undo_22 : decode cX56_undo 22 = .ok (.iaload, 1) := by decide +kernel
theorem dX56_undo_23 : decode cX56_undo 23 = .ok (.iastore, 1) := by decide +kernel
theorem dX56_undo_24 : decode cX56_undo 24 = .ok (.iload_n 1, 1) := by decide +kernel
theorem dX56_undo_25 : decode cX56_undo 25 = .ok (.bipush 8, 2) := by decide +kernel
theorem dX56_undo_27 : decode cX56_undo 27 = .ok (.idiv, 1) := by decide +kernel
theorem dX56_undo_28 : decode cX56_undo 28 = .ok (.bipush 8, 2) := by decide +kernel
theorem dX56_undo_30 : decode cX56_undo 30 = .ok (.irem, 1) := by decide +kernel
theorem dX56_undo_31 : decode cX56_undo 31 = .ok (.bipush 6, 2) := by decide +kernel
theorem dX56_undo_33 : decode cX56_undo 33 = .ok (.if_icmp .ge 21, 3) := by decide +kernel
theorem dX56_undo_36 : decode cX56_undo 36 = .ok (.aload_n 0, 1) := by decide +kernel
theorem dX56_undo_37 : decode cX56_undo 37 = .ok (.getfield 80, 3) := by decide +kernel
theorem dX56_undo_40 : decode cX56_undo 40 = .ok (.iload_n 1, 1) := by decide +kernel
theorem dX56_undo_41 : decode cX56_undo 41 = .ok (.bipush 8, 2) := by decide +kernel
theorem dX56_undo_43 : decode cX56_undo 43 = .ok (.idiv, 1) := by decide +kernel
theorem dX56_undo_44 : decode cX56_undo 44 = .ok (.bipush 8, 2) := by decide +kernel
theorem dX56_undo_46 : decode cX56_undo 46 = .ok (.irem, 1) := by decide +kernel
theorem dX56_undo_47 : decode cX56_undo 47 = .ok (.aload_n 0, 1) := by decide +kernel
theorem dX56_undo_48 : decode cX56_undo 48 = .ok (.getfield 86, 3) := by decide +kernel
theorem dX56_undo_51 : decode cX56_undo 51 = .ok (.iload_n 2, 1) := by decide +kernel
theorem dX56_undo_52 : decode cX56_undo 52 = .ok (.iaload, 1) := by decide +kernel
theorem dX56_undo_53 : decode cX56_undo 53 = .ok (.iastore, 1) := by decide +kernel
theorem dX56_undo_54 : decode cX56_undo 54 = .ok (.return_, 1) := by decide +kernel
abbrev cX56_takes : ByteArray := prog_86_method_32_code
def yX56_takes : MethodName := ⟨RX56, "takes", "(III)Z"⟩
theorem dX56_takes_0 : decode cX56_takes 0 = .ok (.iload_n 1, 1) := by decide +kernel
theorem dX56_takes_1 : decode cX56_takes 1 = .ok (.bipush 8, 2) := by decide +kernel
theorem dX56_takes_3 : decode cX56_takes 3 = .ok (.idiv, 1) := by decide +kernel
theorem dX56_takes_4 : decode cX56_takes 4 = .ok (.bipush 8, 2) := by decide +kernel
theorem dX56_takes_6 : decode cX56_takes 6 = .ok (.irem, 1) := by decide +kernel
theorem dX56_takes_7 : decode cX56_takes 7 = .ok (.istore 4, 2) := by decide +kernel
theorem dX56_takes_9 : decode cX56_takes 9 = .ok (.iload_n 1, 1) := by decide +kernel
theorem dX56_takes_10 : decode cX56_takes 10 = .ok (.bipush 8, 2) := by decide +kernel
theorem dX56_takes_12 : decode cX56_takes 12 = .ok (.irem, 1) := by decide +kernel
theorem dX56_takes_13 : decode cX56_takes 13 = .ok (.istore 5, 2) := by decide +kernel
theorem dX56_takes_15 : decode cX56_takes 15 = .ok (.aload_n 0, 1) := by decide +kernel
theorem dX56_takes_16 : decode cX56_takes 16 = .ok (.getfield 19, 3) := by decide +kernel
theorem dX56_takes_19 : decode cX56_takes 19 = .ok (.iload_n 3, 1) := by decide +kernel
theorem dX56_takes_20 : decode cX56_takes 20 = .ok (.iaload, 1) := by decide +kernel
theorem dX56_takes_21 : decode cX56_takes 21 = .ok (.iload_n 1, 1) := by decide +kernel
theorem dX56_takes_22 : decode cX56_takes 22 = .ok (.bipush 64, 2) := by decide +kernel
theorem dX56_takes_24 : decode cX56_takes 24 = .ok (.idiv, 1) := by decide +kernel
theorem dX56_takes_25 : decode cX56_takes 25 = .ok (.if_icmp .eq 5, 3) := by decide +kernel
theorem dX56_takes_28 : decode cX56_takes 28 = .ok (.iconst 0, 1) := by decide +kernel
theorem dX56_takes_29 : decode cX56_takes 29 = .ok (.ireturn, 1) := by decide +kernel
theorem dX56_takes_30 : decode cX56_takes 30 = .ok (.aload_n 0, 1) := by decide +kernel
theorem dX56_takes_31 : decode cX56_takes 31 = .ok (.getfield 86, 3) := by decide +kernel
theorem dX56_takes_34 : decode cX56_takes 34 = .ok (.iload_n 2, 1) := by decide +kernel
theorem dX56_takes_35 : decode cX56_takes 35 = .ok (.iload 4, 2) := by decide +kernel
theorem dX56_takes_37 : decode cX56_takes 37 = .ok (.bipush 6, 2) := by decide +kernel
theorem dX56_takes_39 : decode cX56_takes 39 = .ok (.if_icmp .ge 13, 3) := by decide +kernel
theorem dX56_takes_42 : decode cX56_takes 42 = .ok (.aload_n 0, 1) := by decide +kernel
theorem dX56_takes_43 : decode cX56_takes 43 = .ok (.getfield 80, 3) := by decide +kernel
theorem dX56_takes_46 : decode cX56_takes 46 = .ok (.iload 4, 2) := by decide +kernel
theorem dX56_takes_48 : decode cX56_takes 48 = .ok (.iaload, 1) := by decide +kernel
theorem dX56_takes_49 : decode cX56_takes 49 = .ok (.goto 4, 3) := by decide +kernel
theorem dX56_takes_52 : decode cX56_takes 52 = .ok (.iconst (-1), 1) := by decide +kernel
theorem dX56_takes_53 : decode cX56_takes 53 = .ok (.iastore, 1) := by decide +kernel
theorem dX56_takes_54 : decode cX56_takes 54 = .ok (.iload 4, 2) := by decide +kernel
theorem dX56_takes_56 : decode cX56_takes 56 = .ok (.bipush 6, 2) := by decide +kernel
theorem dX56_takes_58 : decode cX56_takes 58 = .ok (.if_icmp .ge 31, 3) := by decide +kernel
theorem dX56_takes_61 : decode cX56_takes 61 = .ok (.aload_n 0, 1) := by decide +kernel
theorem dX56_takes_62 : decode cX56_takes 62 = .ok (.getfield 80, 3) := by decide +kernel
theorem dX56_takes_65 : decode cX56_takes 65 = .ok (.iload 4, 2) := by decide +kernel
theorem dX56_takes_67 : decode cX56_takes 67 = .ok (.iaload, 1) := by decide +kernel
theorem dX56_takes_68 : decode cX56_takes 68 = .ok (.ifCond .lt 21, 3) := by decide +kernel
theorem dX56_takes_71 : decode cX56_takes 71 = .ok (.aload_n 0, 1) := by decide +kernel
theorem dX56_takes_72 : decode cX56_takes 72 = .ok (.getfield 80, 3) := by decide +kernel
theorem dX56_takes_75 : decode cX56_takes 75 = .ok (.iload 4, 2) := by decide +kernel
theorem dX56_takes_77 : decode cX56_takes 77 = .ok (.iaload, 1) := by decide +kernel
theorem dX56_takes_78 : decode cX56_takes 78 = .ok (.aload_n 0, 1) := by decide +kernel
theorem dX56_takes_79 : decode cX56_takes 79 = .ok (.getfield 22, 3) := by decide +kernel
theorem dX56_takes_82 : decode cX56_takes 82 = .ok (.iload_n 3, 1) := by decide +kernel
theorem dX56_takes_83 : decode cX56_takes 83 = .ok (.iaload, 1) := by decide +kernel
theorem dX56_takes_84 : decode cX56_takes 84 = .ok (.if_icmp .eq 5, 3) := by decide +kernel
theorem dX56_takes_87 : decode cX56_takes 87 = .ok (.iconst 0, 1) := by decide +kernel
theorem dX56_takes_88 : decode cX56_takes 88 = .ok (.ireturn, 1) := by decide +kernel
theorem dX56_takes_89 : decode cX56_takes 89 = .ok (.iload 4, 2) := by decide +kernel
theorem dX56_takes_91 : decode cX56_takes 91 = .ok (.bipush 6, 2) := by decide +kernel
theorem dX56_takes_93 : decode cX56_takes 93 = .ok (.if_icmp .ge 16, 3) := by decide +kernel
theorem dX56_takes_96 : decode cX56_takes 96 = .ok (.aload_n 0, 1) := by decide +kernel
theorem dX56_takes_97 : decode cX56_takes 97 = .ok (.getfield 80, 3) := by decide +kernel
theorem dX56_takes_100 : decode cX56_takes 100 = .ok (.iload 4, 2) := by decide +kernel
theorem dX56_takes_102 : decode cX56_takes 102 = .ok (.aload_n 0, 1) := by decide +kernel
theorem dX56_takes_103 : decode cX56_takes 103 = .ok (.getfield 22, 3) := by decide +kernel
theorem dX56_takes_106 : decode cX56_takes 106 = .ok (.iload_n 3, 1) := by decide +kernel
theorem dX56_takes_107 : decode cX56_takes 107 = .ok (.iaload, 1) := by decide +kernel
theorem dX56_takes_108 : decode cX56_takes 108 = .ok (.iastore, 1) := by decide +kernel
theorem dX56_takes_109 : decode cX56_takes 109 = .ok (.aload_n 0, 1) := by decide +kernel
theorem dX56_takes_110 : decode cX56_takes 110 = .ok (.getfield 89, 3) := by decide +kernel
theorem dX56_takes_113 : decode cX56_takes 113 = .ok (.iload_n 2, 1) := by decide +kernel
theorem dX56_takes_114 : decode cX56_takes 114 = .ok (.iload 5, 2) := by decide +kernel
theorem dX56_takes_116 : decode cX56_takes 116 = .ok (.bipush 6, 2) := by decide +kernel
theorem dX56_takes_118 : decode cX56_takes 118 = .ok (.if_icmp .ge 13, 3) := by decide +kernel
theorem dX56_takes_121 : decode cX56_takes 121 = .ok (.aload_n 0, 1) := by decide +kernel
theorem dX56_takes_122 : decode cX56_takes 122 = .ok (.getfield 80, 3) := by decide +kernel
theorem dX56_takes_125 : decode cX56_takes 125 = .ok (.iload 5, 2) := by decide +kernel
theorem dX56_takes_127 : decode cX56_takes 127 = .ok (.iaload, 1) := by decide +kernel
theorem dX56_takes_128 : decode cX56_takes 128 = .ok (.goto 4, 3) := by decide +kernel
theorem dX56_takes_131 : decode cX56_takes 131 = .ok (.iconst (-1), 1) := by decide +kernel
theorem dX56_takes_132 : decode cX56_takes 132 = .ok (.iastore, 1) := by decide +kernel
theorem dX56_takes_133 : decode cX56_takes 133 = .ok (.iload 5, 2) := by decide +kernel
theorem dX56_takes_135 : decode cX56_takes 135 = .ok (.bipush 6, 2) := by decide +kernel
theorem dX56_takes_137 : decode cX56_takes 137 = .ok (.if_icmp .ge 51, 3) := by decide +kernel
theorem dX56_takes_140 : decode cX56_takes 140 = .ok (.aload_n 0, 1) := by decide +kernel
theorem dX56_takes_141 : decode cX56_takes 141 = .ok (.getfield 80, 3) := by decide +kernel
theorem dX56_takes_144 : decode cX56_takes 144 = .ok (.iload 5, 2) := by decide +kernel
theorem dX56_takes_146 : decode cX56_takes 146 = .ok (.iaload, 1) := by decide +kernel
theorem dX56_takes_147 : decode cX56_takes 147 = .ok (.ifCond .lt 41, 3) := by decide +kernel
theorem dX56_takes_150 : decode cX56_takes 150 = .ok (.aload_n 0, 1) := by decide +kernel
theorem dX56_takes_151 : decode cX56_takes 151 = .ok (.getfield 80, 3) := by decide +kernel
theorem dX56_takes_154 : decode cX56_takes 154 = .ok (.iload 5, 2) := by decide +kernel
theorem dX56_takes_156 : decode cX56_takes 156 = .ok (.iaload, 1) := by decide +kernel
theorem dX56_takes_157 : decode cX56_takes 157 = .ok (.aload_n 0, 1) := by decide +kernel
theorem dX56_takes_158 : decode cX56_takes 158 = .ok (.getfield 25, 3) := by decide +kernel
theorem dX56_takes_161 : decode cX56_takes 161 = .ok (.iload_n 3, 1) := by decide +kernel
theorem dX56_takes_162 : decode cX56_takes 162 = .ok (.iaload, 1) := by decide +kernel
theorem dX56_takes_163 : decode cX56_takes 163 = .ok (.if_icmp .eq 25, 3) := by decide +kernel
theorem dX56_takes_166 : decode cX56_takes 166 = .ok (.iload 4, 2) := by decide +kernel
theorem dX56_takes_168 : decode cX56_takes 168 = .ok (.bipush 6, 2) := by decide +kernel
theorem dX56_takes_170 : decode cX56_takes 170 = .ok (.if_icmp .ge 16, 3) := by decide +kernel
theorem dX56_takes_173 : decode cX56_takes 173 = .ok (.aload_n 0, 1) := by decide +kernel
theorem dX56_takes_174 : decode cX56_takes 174 = .ok (.getfield 80, 3) := by decide +kernel
theorem dX56_takes_177 : decode cX56_takes 177 = .ok (.iload 4, 2) := by decide +kernel
theorem dX56_takes_179 : decode cX56_takes 179 = .ok (.aload_n 0, 1) := by decide +kernel
theorem dX56_takes_180 : decode cX56_takes 180 = .ok (.getfield 86, 3) := by decide +kernel
theorem dX56_takes_183 : decode cX56_takes 183 = .ok (.iload_n 2, 1) := by decide +kernel
theorem dX56_takes_184 : decode cX56_takes 184 = .ok (.iaload, 1) := by decide +kernel
theorem dX56_takes_185 : decode cX56_takes 185 = .ok (.iastore, 1) := by decide +kernel
theorem dX56_takes_186 : decode cX56_takes 186 = .ok (.iconst 0, 1) := by decide +kernel
theorem dX56_takes_187 : decode cX56_takes 187 = .ok (.ireturn, 1) := by decide +kernel
theorem dX56_takes_188 : decode cX56_takes 188 = .ok (.iload 5, 2) := by decide +kernel
theorem dX56_takes_190 : decode cX56_takes 190 = .ok (.bipush 6, 2) := by decide +kernel
theorem dX56_takes_192 : decode cX56_takes 192 = .ok (.if_icmp .ge 16, 3) := by decide +kernel
theorem dX56_takes_195 : decode cX56_takes 195 = .ok (.aload_n 0, 1) := by decide +kernel
theorem dX56_takes_196 : decode cX56_takes 196 = .ok (.getfield 80, 3) := by decide +kernel
theorem dX56_takes_199 : decode cX56_takes 199 = .ok (.iload 5, 2) := by decide +kernel
theorem dX56_takes_201 : decode cX56_takes 201 = .ok (.aload_n 0, 1) := by decide +kernel
theorem dX56_takes_202 : decode cX56_takes 202 = .ok (.getfield 25, 3) := by decide +kernel
theorem dX56_takes_205 : decode cX56_takes 205 = .ok (.iload_n 3, 1) := by decide +kernel
theorem dX56_takes_206 : decode cX56_takes 206 = .ok (.iaload, 1) := by decide +kernel
theorem dX56_takes_207 : decode cX56_takes 207 = .ok (.iastore, 1) := by decide +kernel
theorem dX56_takes_208 : decode cX56_takes 208 = .ok (.iconst 1, 1) := by decide +kernel
theorem dX56_takes_209 : decode cX56_takes 209 = .ok (.ireturn, 1) := by decide +kernel
abbrev cX56_note : ByteArray := prog_86_method_35_code
def yX56_note : MethodName := ⟨RX56, "note", "(I)V"⟩
theorem dX56_note_0 : decode cX56_note 0 = .ok (.aload_n 0, 1) := by decide +kernel
theorem dX56_note_1 : decode cX56_note 1 = .ok (.getfield 64, 3) := by decide +kernel
theorem dX56_note_4 : decode cX56_note 4 = .ok (.iload_n 1, 1) := by decide +kernel
theorem dX56_note_5 : decode cX56_note 5 = .ok (.iaload, 1) := by decide +kernel
theorem dX56_note_6 : decode cX56_note 6 = .ok (.ifCond .ge 7, 3) := by decide +kernel
theorem dX56_note_9 : decode cX56_note 9 = .ok (.iconst 0, 1) := by decide +kernel
theorem dX56_note_10 : decode cX56_note 10 = .ok (.goto 14, 3) := by decide +kernel
theorem dX56_note_13 : decode cX56_note 13 = .ok (.aload_n 0, 1) := by decide +kernel
theorem dX56_note_14 : decode cX56_note 14 = .ok (.getfield 80, 3) := by decide +kernel
theorem dX56_note_17 : decode cX56_note 17 = .ok (.aload_n 0, 1) := by decide +kernel
theorem dX56_note_18 : decode cX56_note 18 = .ok (.getfield 64, 3) := by decide +kernel
theorem dX56_note_21 : decode cX56_note 21 = .ok (.iload_n 1, 1) := by decide +kernel
theorem dX56_note_22 : decode cX56_note 22 = .ok (.iaload, 1) := by decide +kernel
theorem dX56_note_23 : decode cX56_note 23 = .ok (.iaload, 1) := by decide +kernel
theorem dX56_note_24 : decode cX56_note 24 = .ok (.istore_n 2, 1) := by decide +kernel
theorem dX56_note_25 : decode cX56_note 25 = .ok (.aload_n 0, 1) := by decide +kernel
theorem dX56_note_26 : decode cX56_note 26 = .ok (.getfield 67, 3) := by decide +kernel
theorem dX56_note_29 : decode cX56_note 29 = .ok (.iload_n 1, 1) := by decide +kernel
theorem dX56_note_30 : decode cX56_note 30 = .ok (.iaload, 1) := by decide +kernel
theorem dX56_note_31 : decode cX56_note 31 = .ok (.ifCond .ge 7, 3) := by decide +kernel
theorem dX56_note_34 : decode cX56_note 34 = .ok (.iconst 0, 1) := by decide +kernel
theorem dX56_note_35 : decode cX56_note 35 = .ok (.goto 14, 3) := by decide +kernel
theorem dX56_note_38 : decode cX56_note 38 = .ok (.aload_n 0, 1) := by decide +kernel
theorem dX56_note_39 : decode cX56_note 39 = .ok (.getfield 80, 3) := by decide +kernel
theorem dX56_note_42 : decode cX56_note 42 = .ok (.aload_n 0, 1) := by decide +kernel
theorem dX56_note_43 : decode cX56_note 43 = .ok (.getfield 67, 3) := by decide +kernel
theorem dX56_note_46 : decode cX56_note 46 = .ok (.iload_n 1, 1) := by decide +kernel
theorem dX56_note_47 : decode cX56_note 47 = .ok (.iaload, 1) := by decide +kernel
theorem dX56_note_48 : decode cX56_note 48 = .ok (.iaload, 1) := by decide +kernel
theorem dX56_note_49 : decode cX56_note 49 = .ok (.istore_n 3, 1) := by decide +kernel
theorem dX56_note_50 : decode cX56_note 50 = .ok (.iload_n 2, 1) := by decide +kernel
theorem dX56_note_51 : decode cX56_note 51 = .ok (.ifCond .lt 33, 3) := by decide +kernel
theorem dX56_note_54 : decode cX56_note 54 = .ok (.iload_n 3, 1) := by decide +kernel
theorem dX56_note_55 : decode cX56_note 55 = .ok (.ifCond .lt 29, 3) := by decide +kernel
theorem dX56_note_58 : decode cX56_note 58 = .ok (.aload_n 0, 1) := by decide +kernel
theorem dX56_note_59 : decode cX56_note 59 = .ok (.getfield 77, 3) := by decide +kernel
theorem dX56_note_62 : decode cX56_note 62 = .ok (.bipush 16, 2) := by decide +kernel
theorem dX56_note_64 : decode cX56_note 64 = .ok (.iload_n 2, 1) := by decide +kernel
theorem dX56_note_65 : decode cX56_note 65 = .ok (.imul, 1) := by decide +kernel
theorem dX56_note_66 : decode cX56_note 66 = .ok (.iload_n 3, 1) := by decide +kernel
theorem dX56_note_67 : decode cX56_note 67 = .ok (.iadd, 1) := by decide +kernel
theorem dX56_note_68 : decode cX56_note 68 = .ok (.iaload, 1) := by decide +kernel
theorem dX56_note_69 : decode cX56_note 69 = .ok (.ifCond .ge 15, 3) := by decide +kernel
theorem dX56_note_72 : decode cX56_note 72 = .ok (.aload_n 0, 1) := by decide +kernel
theorem dX56_note_73 : decode cX56_note 73 = .ok (.getfield 77, 3) := by decide +kernel
theorem dX56_note_76 : decode cX56_note 76 = .ok (.bipush 16, 2) := by decide +kernel
theorem dX56_note_78 : decode cX56_note 78 = .ok (.iload_n 2, 1) := by decide +kernel
theorem dX56_note_79 : decode cX56_note 79 = .ok (.imul, 1) := by decide +kernel
theorem dX56_note_80 : decode cX56_note 80 = .ok (.iload_n 3, 1) := by decide +kernel
theorem dX56_note_81 : decode cX56_note 81 = .ok (.iadd, 1) := by decide +kernel
theorem dX56_note_82 : decode cX56_note 82 = .ok (.iload_n 1, 1) := by decide +kernel
theorem dX56_note_83 : decode cX56_note 83 = .ok (.iastore, 1) := by decide +kernel
theorem dX56_note_84 : decode cX56_note 84 = .ok (.return_, 1) := by decide +kernel
abbrev cX56_answer : ByteArray := prog_86_method_41_code
def yX56_answer : MethodName := ⟨RX56, "answer", "(II)I"⟩
theorem dX56_answer_0 : decode cX56_answer 0 = .ok (.aload_n 0, 1) := by decide +kernel
theorem dX56_answer_1 : decode cX56_answer 1 = .ok (.iload_n 1, 1) := by decide +kernel
theorem dX56_answer_2 : decode cX56_answer 2 = .ok (.invokevirtual 221, 3) := by decide +kernel
theorem dX56_answer_5 : decode cX56_answer 5 = .ok (.istore_n 3, 1) := by decide +kernel
theorem dX56_answer_6 : decode cX56_answer 6 = .ok (.iload_n 3, 1) := by decide +kernel
theorem dX56_answer_7 : decode cX56_answer 7 = .ok (.ifCond .ge 5, 3) := by decide +kernel
theorem dX56_answer_10 : decode cX56_answer 10 = .ok (.iload_n 3, 1) := by decide +kernel
theorem dX56_answer_11 : decode cX56_answer 11 = .ok (.ireturn, 1) := by decide +kernel
theorem dX56_answer_12 : decode cX56_answer 12 = .ok (.aload_n 0, 1) := by decide +kernel
theorem dX56_answer_13 : decode cX56_answer 13 = .ok (.invokevirtual 224, 3) := by decide +kernel
theorem dX56_answer_16 : decode cX56_answer 16 = .ok (.iload_n 2, 1) := by decide +kernel
theorem dX56_answer_17 : decode cX56_answer 17 = .ok (.istore 4, 2) := by decide +kernel
theorem dX56_answer_19 : decode cX56_answer 19 = .ok (.iconst 0, 1) := by decide +kernel
theorem dX56_answer_20 : decode cX56_answer 20 = .ok (.istore 5, 2) := by decide +kernel
theorem dX56_answer_22 : decode cX56_answer 22 = .ok (.iload 5, 2) := by decide +kernel
theorem dX56_answer_24 : decode cX56_answer 24 = .ok (.sipush 192, 3) := by decide +kernel
theorem dX56_answer_27 : decode cX56_answer 27 = .ok (.if_icmp .ge 37, 3) := by decide +kernel
theorem dX56_answer_30 : decode cX56_answer 30 = .ok (.iload_n 2, 1) := by decide +kernel
theorem dX56_answer_31 : decode cX56_answer 31 = .ok (.ifCond .lt 33, 3) := by decide +kernel
theorem dX56_answer_34 : decode cX56_answer 34 = .ok (.aload_n 0, 1) := by decide +kernel
theorem dX56_answer_35 : decode cX56_answer 35 = .ok (.getfield 77, 3) := by decide +kernel
theorem dX56_answer_38 : decode cX56_answer 38 = .ok (.iload 5, 2) := by decide +kernel
theorem dX56_answer_40 : decode cX56_answer 40 = .ok (.iaload, 1) := by decide +kernel
theorem dX56_answer_41 : decode cX56_answer 41 = .ok (.ifCond .ge 6, 3) := by decide +kernel
theorem dX56_answer_44 : decode cX56_answer 44 = .ok (.goto 14, 3) := by decide +kernel
theorem dX56_answer_47 : decode cX56_answer 47 = .ok (.iload 4, 2) := by decide +kernel
theorem dX56_answer_49 : decode cX56_answer 49 = .ok (.ifCond .ne 6, 3) := by decide +kernel
theorem dX56_answer_52 : decode cX56_answer 52 = .ok (.iload 5, 2) := by decide +kernel
theorem dX56_answer_54 : decode cX56_answer 54 = .ok (.ireturn, 1) := by decide +kernel
theorem dX56_answer_55 : decode cX56_answer 55 = .ok (.iinc 4 (-1), 3) := by decide +kernel
theorem dX56_answer_58 : decode cX56_answer 58 = .ok (.iinc 5 1, 3) := by decide +kernel
theorem dX56_answer_61 : decode cX56_answer 61 = .ok (.goto (-39), 3) := by decide +kernel
theorem dX56_answer_64 : decode cX56_answer 64 = .ok (.iconst (-1), 1) := by decide +kernel
theorem dX56_answer_65 : decode cX56_answer 65 = .ok (.ireturn, 1) := by decide +kernel
abbrev cX56_why : ByteArray := prog_86_method_42_code
def yX56_why : MethodName := ⟨RX56, "why", "(II)I"⟩
theorem dX56_why_0 : decode cX56_why 0 = .ok (.aload_n 0, 1) := by decide +kernel
theorem dX56_why_1 : decode cX56_why 1 = .ok (.iload_n 1, 1) := by decide +kernel
theorem dX56_why_2 : decode cX56_why 2 = .ok (.invokevirtual 221, 3) := by decide +kernel
theorem dX56_why_5 : decode cX56_why 5 = .ok (.istore_n 3, 1) := by decide +kernel
theorem dX56_why_6 : decode cX56_why 6 = .ok (.iload_n 3, 1) := by decide +kernel
theorem dX56_why_7 : decode cX56_why 7 = .ok (.ifCond .ge 5, 3) := by decide +kernel
theorem dX56_why_10 : decode cX56_why 10 = .ok (.iload_n 3, 1) := by decide +kernel
theorem dX56_why_11 : decode cX56_why 11 = .ok (.ireturn, 1) := by decide +kernel
theorem dX56_why_12 : decode cX56_why 12 = .ok (.aload_n 0, 1) := by decide +kernel
theorem dX56_why_13 : decode cX56_why 13 = .ok (.invokevirtual 224, 3) := by decide +kernel
theorem dX56_why_16 : decode cX56_why 16 = .ok (.iload_n 2, 1) := by decide +kernel
theorem dX56_why_17 : decode cX56_why 17 = .ok (.ifCond .lt 19, 3) := by decide +kernel
theorem dX56_why_20 : decode cX56_why 20 = .ok (.iload_n 2, 1) := by decide +kernel
theorem dX56_why_21 : decode cX56_why 21 = .ok (.sipush 191, 3) := by decide +kernel
theorem dX56_why_24 : decode cX56_why 24 = .ok (.if_icmp .gt 12, 3) := by decide +kernel
theorem dX56_why_27 : decode cX56_why 27 = .ok (.aload_n 0, 1) := by decide +kernel
theorem dX56_why_28 : decode cX56_why 28 = .ok (.getfield 77, 3) := by decide +kernel
theorem dX56_why_31 : decode cX56_why 31 = .ok (.iload_n 2, 1) := by decide +kernel
theorem dX56_why_32 : decode cX56_why 32 = .ok (.iaload, 1) := by decide +kernel
theorem dX56_why_33 : decode cX56_why 33 = .ok (.ifCond .ge 7, 3) := by decide +kernel
theorem dX56_why_36 : decode cX56_why 36 = .ok (.iconst (-1), 1) := by decide +kernel
theorem dX56_why_37 : decode cX56_why 37 = .ok (.goto 9, 3) := by decide +kernel
theorem dX56_why_40 : decode cX56_why 40 = .ok (.aload_n 0, 1) := by decide +kernel
theorem dX56_why_41 : decode cX56_why 41 = .ok (.getfield 77, 3) := by decide +kernel
theorem dX56_why_44 : decode cX56_why 44 = .ok (.iload_n 2, 1) := by decide +kernel
theorem dX56_why_45 : decode cX56_why 45 = .ok (.iaload, 1) := by decide +kernel
theorem dX56_why_46 : decode cX56_why 46 = .ok (.ireturn, 1) := by decide +kernel
abbrev cX56_broken : ByteArray := prog_86_method_44_code
def yX56_broken : MethodName := ⟨RX56, "broken", "()I"⟩
theorem dX56_broken_0 : decode cX56_broken 0 = .ok (.iconst 0, 1) := by decide +kernel
theorem dX56_broken_1 : decode cX56_broken 1 = .ok (.istore_n 1, 1) := by decide +kernel
theorem dX56_broken_2 : decode cX56_broken 2 = .ok (.iload_n 1, 1) := by decide +kernel
theorem dX56_broken_3 : decode cX56_broken 3 = .ok (.aload_n 0, 1) := by decide +kernel
theorem dX56_broken_4 : decode cX56_broken 4 = .ok (.getfield 100, 3) := by decide +kernel
theorem dX56_broken_7 : decode cX56_broken 7 = .ok (.if_icmp .ge 58, 3) := by decide +kernel
theorem dX56_broken_10 : decode cX56_broken 10 = .ok (.aload_n 0, 1) := by decide +kernel
theorem dX56_broken_11 : decode cX56_broken 11 = .ok (.getfield 7, 3) := by decide +kernel
theorem dX56_broken_14 : decode cX56_broken 14 = .ok (.iload_n 1, 1) := by decide +kernel
theorem dX56_broken_15 : decode cX56_broken 15 = .ok (.iaload, 1) := by decide +kernel
theorem dX56_broken_16 : decode cX56_broken 16 = .ok (.iconst 2, 1) := by decide +kernel
theorem dX56_broken_17 : decode cX56_broken 17 = .ok (.if_icmp .ge 6, 3) := by decide +kernel
theorem dX56_broken_20 : decode cX56_broken 20 = .ok (.goto 39, 3) := by decide +kernel
theorem dX56_broken_23 : decode cX56_broken 23 = .ok (.aload_n 0, 1) := by decide +kernel
theorem dX56_broken_24 : decode cX56_broken 24 = .ok (.iload_n 1, 1) := by decide +kernel
theorem dX56_broken_25 : decode cX56_broken 25 = .ok (.invokevirtual 227, 3) := by decide +kernel
theorem dX56_broken_28 : decode cX56_broken 28 = .ok (.aload_n 0, 1) := by decide +kernel
theorem dX56_broken_29 : decode cX56_broken 29 = .ok (.bipush 6, 2) := by decide +kernel
theorem dX56_broken_31 : decode cX56_broken 31 = .ok (.invokevirtual 218, 3) := by decide +kernel
theorem dX56_broken_34 : decode cX56_broken 34 = .ok (.aload_n 0, 1) := by decide +kernel
theorem dX56_broken_35 : decode cX56_broken 35 = .ok (.getfield 184, 3) := by decide +kernel
theorem dX56_broken_38 : decode cX56_broken 38 = .ok (.ifCond .eq 6, 3) := by decide +kernel
theorem dX56_broken_41 : decode cX56_broken 41 = .ok (.bipush (-3), 2) := by decide +kernel
theorem dX56_broken_43 : decode cX56_broken 43 = .ok (.ireturn, 1) := by decide +kernel
theorem dX56_broken_44 : decode cX56_broken 44 = .ok (.aload_n 0, 1) := by decide +kernel
theorem dX56_broken_45 : decode cX56_broken 45 = .ok (.invokevirtual 224, 3) := by decide +kernel
theorem dX56_broken_48 : decode cX56_broken 48 = .ok (.aload_n 0, 1) := by decide +kernel
theorem dX56_broken_49 : decode cX56_broken 49 = .ok (.getfield 77, 3) := by decide +kernel
theorem dX56_broken_52 : decode cX56_broken 52 = .ok (.iconst 0, 1) := by decide +kernel
theorem dX56_broken_53 : decode cX56_broken 53 = .ok (.iaload, 1) := by decide +kernel
theorem dX56_broken_54 : decode cX56_broken 54 = .ok (.ifCond .lt 5, 3) := by decide +kernel
theorem dX56_broken_57 : decode cX56_broken 57 = .ok (.iload_n 1, 1) := by decide +kernel
theorem dX56_broken_58 : decode cX56_broken 58 = .ok (.ireturn, 1) := by decide +kernel
theorem dX56_broken_59 : decode cX56_broken 59 = .ok (.iinc 1 1, 3) := by decide +kernel
theorem dX56_broken_62 : decode cX56_broken 62 = .ok (.goto (-60), 3) := by decide +kernel
theorem dX56_broken_65 : decode cX56_broken 65 = .ok (.iconst (-1), 1) := by decide +kernel
theorem dX56_broken_66 : decode cX56_broken 66 = .ok (.ireturn, 1) := by decide +kernel
abbrev cX56_lay : ByteArray := prog_86_method_43_code
def yX56_lay : MethodName := ⟨RX56, "lay", "(I)V"⟩
theorem dX56_lay_0 : decode cX56_lay 0 = .ok (.aload_n 0, 1) := by decide +kernel
theorem dX56_lay_1 : decode cX56_lay 1 = .ok (.getfield 28, 3) := by decide +kernel
theorem dX56_lay_4 : decode cX56_lay 4 = .ok (.bipush 6, 2) := by decide +kernel
theorem dX56_lay_6 : decode cX56_lay 6 = .ok (.iconst 0, 1) := by decide +kernel
theorem dX56_lay_7 : decode cX56_lay 7 = .ok (.iastore, 1) := by decide +kernel
theorem dX56_lay_8 : decode cX56_lay 8 = .ok (.aload_n 0, 1) := by decide +kernel
theorem dX56_lay_9 : decode cX56_lay 9 = .ok (.getfield 31, 3) := by decide +kernel
theorem dX56_lay_12 : decode cX56_lay 12 = .ok (.bipush 6, 2) := by decide +kernel
theorem dX56_lay_14 : decode cX56_lay 14 = .ok (.iconst 0, 1) := by decide +kernel
theorem dX56_lay_15 : decode cX56_lay 15 = .ok (.iastore, 1) := by decide +kernel
theorem dX56_lay_16 : decode cX56_lay 16 = .ok (.iconst 0, 1) := by decide +kernel
theorem dX56_lay_17 : decode cX56_lay 17 = .ok (.istore_n 2, 1) := by decide +kernel
theorem dX56_lay_18 : decode cX56_lay 18 = .ok (.iload_n 2, 1) := by decide +kernel
theorem dX56_lay_19 : decode cX56_lay 19 = .ok (.iconst 2, 1) := by decide +kernel
theorem dX56_lay_20 : decode cX56_lay 20 = .ok (.if_icmp .ge 141, 3) := by decide +kernel
theorem dX56_lay_23 : decode cX56_lay 23 = .ok (.iload_n 2, 1) := by decide +kernel
theorem dX56_lay_24 : decode cX56_lay 24 = .ok (.ifCond .ne 12, 3) := by decide +kernel
theorem dX56_lay_27 : decode cX56_lay 27 = .ok (.aload_n 0, 1) := by decide +kernel
theorem dX56_lay_28 : decode cX56_lay 28 = .ok (.getfield 13, 3) := by decide +kernel
theorem dX56_lay_31 : decode cX56_lay 31 = .ok (.iload_n 1, 1) := by decide +kernel
theorem dX56_lay_32 : decode cX56_lay 32 = .ok (.iaload, 1) := by decide +kernel
theorem dX56_lay_33 : decode cX56_lay 33 = .ok (.goto 9, 3) := by decide +kernel
theorem dX56_lay_36 : decode cX56_lay 36 = .ok (.aload_n 0, 1) := by decide +kernel
theorem dX56_lay_37 : decode cX56_lay 37 = .ok (.getfield 16, 3) := by decide +kernel
theorem dX56_lay_40 : decode cX56_lay 40 = .ok (.iload_n 1, 1) := by decide +kernel
theorem dX56_lay_41 : decode cX56_lay 41 = .ok (.iaload, 1) := by decide +kernel
theorem dX56_lay_42 : decode cX56_lay 42 = .ok (.istore_n 3, 1) := by decide +kernel
theorem dX56_lay_43 : decode cX56_lay 43 = .ok (.aload_n 0, 1) := by decide +kernel
theorem dX56_lay_44 : decode cX56_lay 44 = .ok (.getfield 7, 3) := by decide +kernel
theorem dX56_lay_47 : decode cX56_lay 47 = .ok (.iload_n 1, 1) := by decide +kernel
theorem dX56_lay_48 : decode cX56_lay 48 = .ok (.iaload, 1) := by decide +kernel
theorem dX56_lay_49 : decode cX56_lay 49 = .ok (.iconst 2, 1) := by decide +kernel
theorem dX56_lay_50 : decode cX56_lay 50 = .ok (.if_icmp .ne 23, 3) := by decide +kernel
theorem dX56_lay_53 : decode cX56_lay 53 = .ok (.iload_n 3, 1) := by decide +kernel
theorem dX56_lay_54 : decode cX56_lay 54 = .ok (.bipush 20, 2) := by decide +kernel
theorem dX56_lay_56 : decode cX56_lay 56 = .ok (.if_icmp .ge 17, 3) := by decide +kernel
theorem dX56_lay_59 : decode cX56_lay 59 = .ok (.aload_n 0, 1) := by decide +kernel
theorem dX56_lay_60 : decode cX56_lay 60 = .ok (.bipush 6, 2) := by decide +kernel
theorem dX56_lay_62 : decode cX56_lay 62 = .ok (.iload_n 3, 1) := by decide +kernel
theorem dX56_lay_63 : decode cX56_lay 63 = .ok (.bipush 10, 2) := by decide +kernel
theorem dX56_lay_65 : decode cX56_lay 65 = .ok (.bipush 7, 2) := by decide +kernel
theorem dX56_lay_67 : decode cX56_lay 67 = .ok (.invokevirtual 124, 3) := by decide +kernel
theorem dX56_lay_70 : decode cX56_lay 70 = .ok (.goto 85, 3) := by decide +kernel
theorem dX56_lay_73 : decode cX56_lay 73 = .ok (.aload_n 0, 1) := by decide +kernel
theorem dX56_lay_74 : decode cX56_lay 74 = .ok (.getfield 7, 3) := by decide +kernel
theorem dX56_lay_77 : decode cX56_lay 77 = .ok (.iload_n 1, 1) := by decide +kernel
theorem dX56_lay_78 : decode cX56_lay 78 = .ok (.iaload, 1) := by decide +kernel
theorem dX56_lay_79 : decode cX56_lay 79 = .ok (.iconst 2, 1) := by decide +kernel
theorem dX56_lay_80 : decode cX56_lay 80 = .ok (.if_icmp .ne 10, 3) := by decide +kernel
theorem dX56_lay_83 : decode cX56_lay 83 = .ok (.bipush 11, 2) := by decide +kernel
theorem dX56_lay_85 : decode cX56_lay 85 = .ok (.iload_n 2, 1) := by decide +kernel
theorem dX56_lay_86 : decode cX56_lay 86 = .ok (.iadd, 1) := by decide +kernel
theorem dX56_lay_87 : decode cX56_lay 87 = .ok (.goto 5, 3) := by decide +kernel
theorem dX56_lay_90 : decode cX56_lay 90 = .ok (.bipush 11, 2) := by decide +kernel
theorem dX56_lay_92 : decode cX56_lay 92 = .ok (.istore 4, 2) := by decide +kernel
theorem dX56_lay_94 : decode cX56_lay 94 = .ok (.aload_n 0, 1) := by decide +kernel
theorem dX56_lay_95 : decode cX56_lay 95 = .ok (.getfield 7, 3) := by decide +kernel
theorem dX56_lay_98 : decode cX56_lay 98 = .ok (.iload_n 1, 1) := by decide +kernel
theorem dX56_lay_99 : decode cX56_lay 99 = .ok (.iaload, 1) := by decide +kernel
theorem dX56_lay_100 : decode cX56_lay 100 = .ok (.iconst 2, 1) := by decide +kernel
theorem dX56_lay_101 : decode cX56_lay 101 = .ok (.if_icmp .ne 12, 3) := by decide +kernel
theorem dX56_lay_104 : decode cX56_lay 104 = .ok (.iload_n 3, 1) := by decide +kernel
theorem dX56_lay_105 : decode cX56_lay 105 = .ok (.bipush 20, 2) := by decide +kernel
theorem dX56_lay_107 : decode cX56_lay 107 = .ok (.isub, 1) := by decide +kernel
theorem dX56_lay_108 : decode cX56_lay 108 = .ok (.iconst 2, 1) := by decide +kernel
theorem dX56_lay_109 : decode cX56_lay 109 = .ok (.idiv, 1) := by decide +kernel
theorem dX56_lay_110 : decode cX56_lay 110 = .ok (.goto 6, 3) := by decide +kernel
theorem dX56_lay_113 : decode cX56_lay 113 = .ok (.iload_n 3, 1) := by decide +kernel
theorem dX56_lay_114 : decode cX56_lay 114 = .ok (.iconst 2, 1) := by decide +kernel
theorem dX56_lay_115 : decode cX56_lay 115 = .ok (.idiv, 1) := by decide +kernel
theorem dX56_lay_116 : decode cX56_lay 116 = .ok (.istore 5, 2) := by decide +kernel
theorem dX56_lay_118 : decode cX56_lay 118 = .ok (.aload_n 0, 1) := by decide +kernel
theorem dX56_lay_119 : decode cX56_lay 119 = .ok (.bipush 6, 2) := by decide +kernel
theorem dX56_lay_121 : decode cX56_lay 121 = .ok (.bipush 32, 2) := by decide +kernel
theorem dX56_lay_123 : decode cX56_lay 123 = .ok (.iload 5, 2) := by decide +kernel
theorem dX56_lay_125 : decode cX56_lay 125 = .ok (.iadd, 1) := by decide +kernel
theorem dX56_lay_126 : decode cX56_lay 126 = .ok (.iload_n 3, 1) := by decide +kernel
theorem dX56_lay_127 : decode cX56_lay 127 = .ok (.iconst 2, 1) := by decide +kernel
theorem dX56_lay_128 : decode cX56_lay 128 = .ok (.irem, 1) := by decide +kernel
theorem dX56_lay_129 : decode cX56_lay 129 = .ok (.ifCond .ne 8, 3) := by decide +kernel
theorem dX56_lay_132 : decode cX56_lay 132 = .ok (.bipush 10, 2) := by decide +kernel
theorem dX56_lay_134 : decode cX56_lay 134 = .ok (.goto 5, 3) := by decide +kernel
theorem dX56_lay_137 : decode cX56_lay 137 = .ok (.iload 4, 2) := by decide +kernel
theorem dX56_lay_139 : decode cX56_lay 139 = .ok (.iload_n 3, 1) := by decide +kernel
theorem dX56_lay_140 : decode cX56_lay 140 = .ok (.iconst 2, 1) := by decide +kernel
theorem dX56_lay_141 : decode cX56_lay 141 = .ok (.irem, 1) := by decide +kernel
theorem dX56_lay_142 : decode cX56_lay 142 = .ok (.ifCond .ne 8, 3) := by decide +kernel
theorem dX56_lay_145 : decode cX56_lay 145 = .ok (.iload 4, 2) := by decide +kernel
theorem dX56_lay_147 : decode cX56_lay 147 = .ok (.goto 5, 3) := by decide +kernel
theorem dX56_lay_150 : decode cX56_lay 150 = .ok (.bipush 10, 2) := by decide +kernel
theorem dX56_lay_152 : decode cX56_lay 152 = .ok (.invokevirtual 124, 3) := by decide +kernel
theorem dX56_lay_155 : decode cX56_lay 155 = .ok (.iinc 2 1, 3) := by decide +kernel
theorem dX56_lay_158 : decode cX56_lay 158 = .ok (.goto (-140), 3) := by decide +kernel
theorem dX56_lay_161 : decode cX56_lay 161 = .ok (.return_, 1) := by decide +kernel
abbrev cX56_count : ByteArray := prog_86_method_45_code
def yX56_count : MethodName := ⟨RX56, "count", "(I)I"⟩
theorem dX56_count_0 : decode cX56_count 0 = .ok (.iload_n 1, 1) := by decide +kernel
theorem dX56_count_1 : decode cX56_count 1 = .ok (.ifCond .ne 10, 3) := by decide +kernel
theorem dX56_count_4 : decode cX56_count 4 = .ok (.aload_n 0, 1) := by decide +kernel
theorem dX56_count_5 : decode cX56_count 5 = .ok (.getfield 100, 3) := by decide +kernel
theorem dX56_count_8 : decode cX56_count 8 = .ok (.goto 28, 3) := by decide +kernel
theorem dX56_count_11 : decode cX56_count 11 = .ok (.iload_n 1, 1) := by decide +kernel
theorem dX56_count_12 : decode cX56_count 12 = .ok (.iconst 1, 1) := by decide +kernel
theorem dX56_count_13 : decode cX56_count 13 = .ok (.if_icmp .ne 10, 3) := by decide +kernel
theorem dX56_count_16 : decode cX56_count 16 = .ok (.aload_n 0, 1) := by decide +kernel
theorem dX56_count_17 : decode cX56_count 17 = .ok (.getfield 106, 3) := by decide +kernel
theorem dX56_count_20 : decode cX56_count 20 = .ok (.goto 16, 3) := by decide +kernel
theorem dX56_count_23 : decode cX56_count 23 = .ok (.iload_n 1, 1) := by decide +kernel
theorem dX56_count_24 : decode cX56_count 24 = .ok (.iconst 2, 1) := by decide +kernel
theorem dX56_count_25 : decode cX56_count 25 = .ok (.if_icmp .ne 10, 3) := by decide +kernel
theorem dX56_count_28 : decode cX56_count 28 = .ok (.aload_n 0, 1) := by decide +kernel
theorem dX56_count_29 : decode cX56_count 29 = .ok (.getfield 121, 3) := by decide +kernel
theorem dX56_count_32 : decode cX56_count 32 = .ok (.goto 4, 3) := by decide +kernel
theorem dX56_count_35 : decode cX56_count 35 = .ok (.iconst (-1), 1) := by decide +kernel
theorem dX56_count_36 : decode cX56_count 36 = .ok (.ireturn, 1) := by decide +kernel
abbrev cX56_clear : ByteArray := prog_86_method_46_code
def yX56_clear : MethodName := ⟨RX56, "clear", "()I"⟩
theorem dX56_clear_0 : decode cX56_clear 0 = .ok (.aload_n 0, 1) := by decide +kernel
theorem dX56_clear_1 : decode cX56_clear 1 = .ok (.getfield 121, 3) := by decide +kernel
theorem dX56_clear_4 : decode cX56_clear 4 = .ok (.istore_n 1, 1) := by decide +kernel
theorem dX56_clear_5 : decode cX56_clear 5 = .ok (.aload_n 0, 1) := by decide +kernel
theorem dX56_clear_6 : decode cX56_clear 6 = .ok (.iconst 0, 1) := by decide +kernel
theorem dX56_clear_7 : decode cX56_clear 7 = .ok (.putfield 121, 3) := by decide +kernel
theorem dX56_clear_10 : decode cX56_clear 10 = .ok (.aload_n 0, 1) := by decide +kernel
theorem dX56_clear_11 : decode cX56_clear 11 = .ok (.invokevirtual 103, 3) := by decide +kernel
theorem dX56_clear_14 : decode cX56_clear 14 = .ok (.iload_n 1, 1) := by decide +kernel
theorem dX56_clear_15 : decode cX56_clear 15 = .ok (.ireturn, 1) := by decide +kernel
theorem in_X56 : ∀ w ∈ wsX560, w ∈ lw_all := lw_in wsX560 [6704, 6706, 6708, 6710, 6712, 6714, 6716, 6718, 6720, 6722, 6724, 6726, 6728, 6730, 6732, 6734, 6736, 6738, 6740, 6742, 6744, 6746, 6748, 6750, 6752, 6754, 6756, 6758, 6760, 6762, 6764, 6766, 6768, 6770, 6772, 6774, 6776] (by decide +kernel) (by decide +kernel)
theorem q551 : (Jvm.Cond.initialized "KnowHouseModel$QlRewriteModel") ∈ lw_all := lw_g (lw_at lw_m1 73 rfl) rfl
theorem q6667 : (Jvm.Cond.fieldLink "KnowHouseModel$QlRewriteModel" (7 : Nat) "KnowHouseModel$QlRewriteModel" "kinds" "[I") ∈ lw_all := lw_g (lw_at lw_m26 189 rfl) rfl
theorem q6668 : (Jvm.Cond.fieldLink "KnowHouseModel$QlRewriteModel" (13 : Nat) "KnowHouseModel$QlRewriteModel" "lefts" "[I") ∈ lw_all := lw_g (lw_at lw_m26 190 rfl) rfl
theorem q6669 : (Jvm.Cond.fieldLink "KnowHouseModel$QlRewriteModel" (16 : Nat) "KnowHouseModel$QlRewriteModel" "rights" "[I") ∈ lw_all := lw_g (lw_at lw_m26 191 rfl) rfl
theorem q6670 : (Jvm.Cond.fieldLink "KnowHouseModel$QlRewriteModel" (100 : Nat) "KnowHouseModel$QlRewriteModel" "axioms" "I") ∈ lw_all := lw_g (lw_at lw_m26 192 rfl) rfl
theorem q6671 : (Jvm.Cond.fieldLink "KnowHouseModel$QlRewriteModel" (19 : Nat) "KnowHouseModel$QlRewriteModel" "factNames" "[I") ∈ lw_all := lw_g (lw_at lw_m26 193 rfl) rfl
theorem q6672 : (Jvm.Cond.fieldLink "KnowHouseModel$QlRewriteModel" (22 : Nat) "KnowHouseModel$QlRewriteModel" "factAs" "[I") ∈ lw_all := lw_g (lw_at lw_m26 194 rfl) rfl
theorem q6673 : (Jvm.Cond.fieldLink "KnowHouseModel$QlRewriteModel" (25 : Nat) "KnowHouseModel$QlRewriteModel" "factBs" "[I") ∈ lw_all := lw_g (lw_at lw_m26 195 rfl) rfl
theorem q6674 : (Jvm.Cond.fieldLink "KnowHouseModel$QlRewriteModel" (106 : Nat) "KnowHouseModel$QlRewriteModel" "facts" "I") ∈ lw_all := lw_g (lw_at lw_m26 196 rfl) rfl
theorem q6675 : (Jvm.Cond.fieldLink "KnowHouseModel$QlRewriteModel" (28 : Nat) "KnowHouseModel$QlRewriteModel" "answers" "[I") ∈ lw_all := lw_g (lw_at lw_m26 197 rfl) rfl
theorem q6676 : (Jvm.Cond.fieldLink "KnowHouseModel$QlRewriteModel" (31 : Nat) "KnowHouseModel$QlRewriteModel" "sizes" "[I") ∈ lw_all := lw_g (lw_at lw_m26 198 rfl) rfl
theorem q6677 : (Jvm.Cond.fieldLink "KnowHouseModel$QlRewriteModel" (34 : Nat) "KnowHouseModel$QlRewriteModel" "names" "[I") ∈ lw_all := lw_g (lw_at lw_m26 199 rfl) rfl
theorem q6678 : (Jvm.Cond.fieldLink "KnowHouseModel$QlRewriteModel" (37 : Nat) "KnowHouseModel$QlRewriteModel" "froms" "[I") ∈ lw_all := lw_g (lw_at lw_m26 200 rfl) rfl
theorem q6679 : (Jvm.Cond.fieldLink "KnowHouseModel$QlRewriteModel" (40 : Nat) "KnowHouseModel$QlRewriteModel" "tos" "[I") ∈ lw_all := lw_g (lw_at lw_m26 201 rfl) rfl
theorem q6680 : (Jvm.Cond.fieldLink "KnowHouseModel$QlRewriteModel" (121 : Nat) "KnowHouseModel$QlRewriteModel" "questions" "I") ∈ lw_all := lw_g (lw_at lw_m26 202 rfl) rfl
theorem q6681 : (Jvm.Cond.fieldLink "KnowHouseModel$QlRewriteModel" (128 : Nat) "KnowHouseModel$QlRewriteModel" "first" "I") ∈ lw_all := lw_g (lw_at lw_m26 203 rfl) rfl
theorem q6682 : (Jvm.Cond.fieldLink "KnowHouseModel$QlRewriteModel" (131 : Nat) "KnowHouseModel$QlRewriteModel" "second" "I") ∈ lw_all := lw_g (lw_at lw_m26 204 rfl) rfl
theorem q6683 : (Jvm.Cond.fieldLink "KnowHouseModel$QlRewriteModel" (43 : Nat) "KnowHouseModel$QlRewriteModel" "name" "[I") ∈ lw_all := lw_g (lw_at lw_m26 205 rfl) rfl
theorem q6684 : (Jvm.Cond.fieldLink "KnowHouseModel$QlRewriteModel" (46 : Nat) "KnowHouseModel$QlRewriteModel" "from" "[I") ∈ lw_all := lw_g (lw_at lw_m26 206 rfl) rfl
theorem q6685 : (Jvm.Cond.fieldLink "KnowHouseModel$QlRewriteModel" (49 : Nat) "KnowHouseModel$QlRewriteModel" "to" "[I") ∈ lw_all := lw_g (lw_at lw_m26 207 rfl) rfl
theorem q6686 : (Jvm.Cond.fieldLink "KnowHouseModel$QlRewriteModel" (134 : Nat) "KnowHouseModel$QlRewriteModel" "n" "I") ∈ lw_all := lw_g (lw_at lw_m26 208 rfl) rfl
theorem q6687 : (Jvm.Cond.fieldLink "KnowHouseModel$QlRewriteModel" (52 : Nat) "KnowHouseModel$QlRewriteModel" "codes" "[I") ∈ lw_all := lw_g (lw_at lw_m26 209 rfl) rfl
theorem q6688 : (Jvm.Cond.fieldLink "KnowHouseModel$QlRewriteModel" (55 : Nat) "KnowHouseModel$QlRewriteModel" "least" "[I") ∈ lw_all := lw_g (lw_at lw_m26 210 rfl) rfl
theorem q6689 : (Jvm.Cond.fieldLink "KnowHouseModel$QlRewriteModel" (58 : Nat) "KnowHouseModel$QlRewriteModel" "others" "[I") ∈ lw_all := lw_g (lw_at lw_m26 211 rfl) rfl
theorem q6690 : (Jvm.Cond.fieldLink "KnowHouseModel$QlRewriteModel" (155 : Nat) "KnowHouseModel$QlRewriteModel" "otherCount" "I") ∈ lw_all := lw_g (lw_at lw_m26 212 rfl) rfl
theorem q6691 : (Jvm.Cond.fieldLink "KnowHouseModel$QlRewriteModel" (61 : Nat) "KnowHouseModel$QlRewriteModel" "formSizes" "[I") ∈ lw_all := lw_g (lw_at lw_m26 213 rfl) rfl
theorem q6692 : (Jvm.Cond.fieldLink "KnowHouseModel$QlRewriteModel" (64 : Nat) "KnowHouseModel$QlRewriteModel" "formFirsts" "[I") ∈ lw_all := lw_g (lw_at lw_m26 214 rfl) rfl
theorem q6693 : (Jvm.Cond.fieldLink "KnowHouseModel$QlRewriteModel" (67 : Nat) "KnowHouseModel$QlRewriteModel" "formSeconds" "[I") ∈ lw_all := lw_g (lw_at lw_m26 215 rfl) rfl
theorem q6694 : (Jvm.Cond.fieldLink "KnowHouseModel$QlRewriteModel" (70 : Nat) "KnowHouseModel$QlRewriteModel" "formCodes" "[I") ∈ lw_all := lw_g (lw_at lw_m26 216 rfl) rfl
theorem q6695 : (Jvm.Cond.fieldLink "KnowHouseModel$QlRewriteModel" (181 : Nat) "KnowHouseModel$QlRewriteModel" "forms" "I") ∈ lw_all := lw_g (lw_at lw_m26 217 rfl) rfl
theorem q6696 : (Jvm.Cond.fieldLink "KnowHouseModel$QlRewriteModel" (184 : Nat) "KnowHouseModel$QlRewriteModel" "large" "Z") ∈ lw_all := lw_g (lw_at lw_m26 218 rfl) rfl
theorem q6697 : (Jvm.Cond.fieldLink "KnowHouseModel$QlRewriteModel" (73 : Nat) "KnowHouseModel$QlRewriteModel" "looked" "I") ∈ lw_all := lw_g (lw_at lw_m26 219 rfl) rfl
theorem q6698 : (Jvm.Cond.fieldLink "KnowHouseModel$QlRewriteModel" (77 : Nat) "KnowHouseModel$QlRewriteModel" "firstOf" "[I") ∈ lw_all := lw_g (lw_at lw_m26 220 rfl) rfl
theorem q6699 : (Jvm.Cond.fieldLink "KnowHouseModel$QlRewriteModel" (117 : Nat) "KnowHouseModel$QlRewriteModel" "isFound" "Z") ∈ lw_all := lw_g (lw_at lw_m26 221 rfl) rfl
theorem q6700 : (Jvm.Cond.fieldLink "KnowHouseModel$QlRewriteModel" (80 : Nat) "KnowHouseModel$QlRewriteModel" "things" "[I") ∈ lw_all := lw_g (lw_at lw_m26 222 rfl) rfl
theorem q6701 : (Jvm.Cond.fieldLink "KnowHouseModel$QlRewriteModel" (83 : Nat) "KnowHouseModel$QlRewriteModel" "rows" "[I") ∈ lw_all := lw_g (lw_at lw_m26 223 rfl) rfl
theorem q6702 : (Jvm.Cond.fieldLink "KnowHouseModel$QlRewriteModel" (86 : Nat) "KnowHouseModel$QlRewriteModel" "savedA" "[I") ∈ lw_all := lw_g (lw_at lw_m26 224 rfl) rfl
theorem q6703 : (Jvm.Cond.fieldLink "KnowHouseModel$QlRewriteModel" (89 : Nat) "KnowHouseModel$QlRewriteModel" "savedB" "[I") ∈ lw_all := lw_g (lw_at lw_m26 225 rfl) rfl
theorem q7579 : (Jvm.Cond.methodLink "KnowHouseModel$QlRewriteModel" (92 : Nat) ({ cls := "KnowHouseModel$QlRewriteModel", name := "isIn", desc := "(II)Z" } : Jvm.MethodName)) ∈ lw_all := lw_g (lw_at lw_m30 141 rfl) rfl
theorem q7580 : (Jvm.Cond.static ({ cls := "KnowHouseModel$QlRewriteModel", name := "isIn", desc := "(II)Z" } : Jvm.MethodName)) ∈ lw_all := lw_g (lw_at lw_m30 142 rfl) rfl
theorem q7581 : (Jvm.Cond.code ({ cls := "KnowHouseModel$QlRewriteModel", name := "isIn", desc := "(II)Z" } : Jvm.MethodName) prog_86_method_2_code (2 : Nat) (Option.some Jvm.ClassFile.FieldType.boolean)) ∈ lw_all := lw_g (lw_at lw_m30 143 rfl) rfl
theorem q7582 : (Jvm.Cond.methodLink "KnowHouseModel$QlRewriteModel" (96 : Nat) ({ cls := "KnowHouseModel$QlRewriteModel", name := "isSort", desc := "(I)Z" } : Jvm.MethodName)) ∈ lw_all := lw_g (lw_at lw_m30 144 rfl) rfl
theorem q7583 : (Jvm.Cond.static ({ cls := "KnowHouseModel$QlRewriteModel", name := "isSort", desc := "(I)Z" } : Jvm.MethodName)) ∈ lw_all := lw_g (lw_at lw_m30 145 rfl) rfl
theorem q7584 : (Jvm.Cond.code ({ cls := "KnowHouseModel$QlRewriteModel", name := "isSort", desc := "(I)Z" } : Jvm.MethodName) prog_86_method_3_code (1 : Nat) (Option.some Jvm.ClassFile.FieldType.boolean)) ∈ lw_all := lw_g (lw_at lw_m30 146 rfl) rfl
theorem q7585 : (Jvm.Cond.methodLink "KnowHouseModel$QlRewriteModel" (103 : Nat) ({ cls := "KnowHouseModel$QlRewriteModel", name := "change", desc := "()V" } : Jvm.MethodName)) ∈ lw_all := lw_g (lw_at lw_m30 147 rfl) rfl
theorem q7587 : (Jvm.Cond.instanceMethod ({ cls := "KnowHouseModel$QlRewriteModel", name := "change", desc := "()V" } : Jvm.MethodName)) ∈ lw_all := lw_g (lw_at lw_m30 149 rfl) rfl
theorem q7588 : (Jvm.Cond.code ({ cls := "KnowHouseModel$QlRewriteModel", name := "change", desc := "()V" } : Jvm.MethodName) prog_86_method_4_code (1 : Nat) (Option.none : Option Jvm.ClassFile.FieldType)) ∈ lw_all := lw_g (lw_at lw_m30 150 rfl) rfl
theorem q7602 : (Jvm.Cond.methodLink "KnowHouseModel$QlRewriteModel" (109 : Nat) ({ cls := "KnowHouseModel$QlRewriteModel", name := "isGood", desc := "(ZIII)Z" } : Jvm.MethodName)) ∈ lw_all := lw_g (lw_at lw_m30 164 rfl) rfl
theorem q7603 : (Jvm.Cond.static ({ cls := "KnowHouseModel$QlRewriteModel", name := "isGood", desc := "(ZIII)Z" } : Jvm.MethodName)) ∈ lw_all := lw_g (lw_at lw_m30 165 rfl) rfl
theorem q7604 : (Jvm.Cond.code ({ cls := "KnowHouseModel$QlRewriteModel", name := "isGood", desc := "(ZIII)Z" } : Jvm.MethodName) prog_86_method_6_code (4 : Nat) (Option.some Jvm.ClassFile.FieldType.boolean)) ∈ lw_all := lw_g (lw_at lw_m30 166 rfl) rfl
theorem q7605 : (Jvm.Cond.methodLink "KnowHouseModel$QlRewriteModel" (113 : Nat) ({ cls := "KnowHouseModel$QlRewriteModel", name := "findFact", desc := "(III)I" } : Jvm.MethodName)) ∈ lw_all := lw_g (lw_at lw_m30 167 rfl) rfl
theorem q7607 : (Jvm.Cond.instanceMethod ({ cls := "KnowHouseModel$QlRewriteModel", name := "findFact", desc := "(III)I" } : Jvm.MethodName)) ∈ lw_all := lw_g (lw_at lw_m30 169 rfl) rfl
theorem q7608 : (Jvm.Cond.code ({ cls := "KnowHouseModel$QlRewriteModel", name := "findFact", desc := "(III)I" } : Jvm.MethodName) prog_86_method_7_code (5 : Nat) (Option.some Jvm.ClassFile.FieldType.int)) ∈ lw_all := lw_g (lw_at lw_m30 170 rfl) rfl
theorem q8789 : (Jvm.Cond.methodLink "KnowHouseModel$QlRewriteModel" (124 : Nat) ({ cls := "KnowHouseModel$QlRewriteModel", name := "put", desc := "(IIII)V" } : Jvm.MethodName)) ∈ lw_all := lw_g (lw_at lw_m35 151 rfl) rfl
theorem q8791 : (Jvm.Cond.instanceMethod ({ cls := "KnowHouseModel$QlRewriteModel", name := "put", desc := "(IIII)V" } : Jvm.MethodName)) ∈ lw_all := lw_g (lw_at lw_m35 153 rfl) rfl
theorem q8792 : (Jvm.Cond.code ({ cls := "KnowHouseModel$QlRewriteModel", name := "put", desc := "(IIII)V" } : Jvm.MethodName) prog_86_method_11_code (6 : Nat) (Option.none : Option Jvm.ClassFile.FieldType)) ∈ lw_all := lw_g (lw_at lw_m35 154 rfl) rfl
theorem q8797 : (Jvm.Cond.methodLink "KnowHouseModel$QlRewriteModel" (221 : Nat) ({ cls := "KnowHouseModel$QlRewriteModel", name := "ready", desc := "(I)I" } : Jvm.MethodName)) ∈ lw_all := lw_g (lw_at lw_m35 159 rfl) rfl
theorem q8799 : (Jvm.Cond.instanceMethod ({ cls := "KnowHouseModel$QlRewriteModel", name := "ready", desc := "(I)I" } : Jvm.MethodName)) ∈ lw_all := lw_g (lw_at lw_m35 161 rfl) rfl
theorem q8800 : (Jvm.Cond.code ({ cls := "KnowHouseModel$QlRewriteModel", name := "ready", desc := "(I)I" } : Jvm.MethodName) prog_86_method_37_code (2 : Nat) (Option.some Jvm.ClassFile.FieldType.int)) ∈ lw_all := lw_g (lw_at lw_m35 162 rfl) rfl
theorem q8801 : (Jvm.Cond.methodLink "KnowHouseModel$QlRewriteModel" (218 : Nat) ({ cls := "KnowHouseModel$QlRewriteModel", name := "look", desc := "(I)V" } : Jvm.MethodName)) ∈ lw_all := lw_g (lw_at lw_m35 163 rfl) rfl
theorem q8803 : (Jvm.Cond.instanceMethod ({ cls := "KnowHouseModel$QlRewriteModel", name := "look", desc := "(I)V" } : Jvm.MethodName)) ∈ lw_all := lw_g (lw_at lw_m35 165 rfl) rfl
theorem q8804 : (Jvm.Cond.code ({ cls := "KnowHouseModel$QlRewriteModel", name := "look", desc := "(I)V" } : Jvm.MethodName) prog_86_method_31_code (5 : Nat) (Option.none : Option Jvm.ClassFile.FieldType)) ∈ lw_all := lw_g (lw_at lw_m35 166 rfl) rfl
theorem q8805 : (Jvm.Cond.methodLink "KnowHouseModel$QlRewriteModel" (137 : Nat) ({ cls := "KnowHouseModel$QlRewriteModel", name := "begin", desc := "(II)V" } : Jvm.MethodName)) ∈ lw_all := lw_g (lw_at lw_m35 167 rfl) rfl
theorem q8807 : (Jvm.Cond.instanceMethod ({ cls := "KnowHouseModel$QlRewriteModel", name := "begin", desc := "(II)V" } : Jvm.MethodName)) ∈ lw_all := lw_g (lw_at lw_m35 169 rfl) rfl
theorem q8808 : (Jvm.Cond.code ({ cls := "KnowHouseModel$QlRewriteModel", name := "begin", desc := "(II)V" } : Jvm.MethodName) prog_86_method_13_code (3 : Nat) (Option.none : Option Jvm.ClassFile.FieldType)) ∈ lw_all := lw_g (lw_at lw_m35 170 rfl) rfl
theorem q8809 : (Jvm.Cond.methodLink "KnowHouseModel$QlRewriteModel" (141 : Nat) ({ cls := "KnowHouseModel$QlRewriteModel", name := "add", desc := "(III)V" } : Jvm.MethodName)) ∈ lw_all := lw_g (lw_at lw_m35 171 rfl) rfl
theorem q8811 : (Jvm.Cond.instanceMethod ({ cls := "KnowHouseModel$QlRewriteModel", name := "add", desc := "(III)V" } : Jvm.MethodName)) ∈ lw_all := lw_g (lw_at lw_m35 173 rfl) rfl
theorem q8812 : (Jvm.Cond.code ({ cls := "KnowHouseModel$QlRewriteModel", name := "add", desc := "(III)V" } : Jvm.MethodName) prog_86_method_14_code (4 : Nat) (Option.none : Option Jvm.ClassFile.FieldType)) ∈ lw_all := lw_g (lw_at lw_m35 174 rfl) rfl
theorem q8813 : (Jvm.Cond.methodLink "KnowHouseModel$QlRewriteModel" (190 : Nat) ({ cls := "KnowHouseModel$QlRewriteModel", name := "finish", desc := "()V" } : Jvm.MethodName)) ∈ lw_all := lw_g (lw_at lw_m35 175 rfl) rfl
theorem q8815 : (Jvm.Cond.instanceMethod ({ cls := "KnowHouseModel$QlRewriteModel", name := "finish", desc := "()V" } : Jvm.MethodName)) ∈ lw_all := lw_g (lw_at lw_m35 177 rfl) rfl
theorem q8816 : (Jvm.Cond.code ({ cls := "KnowHouseModel$QlRewriteModel", name := "finish", desc := "()V" } : Jvm.MethodName) prog_86_method_24_code (6 : Nat) (Option.none : Option Jvm.ClassFile.FieldType)) ∈ lw_all := lw_g (lw_at lw_m35 178 rfl) rfl
theorem q8817 : (Jvm.Cond.methodLink "KnowHouseModel$QlRewriteModel" (158 : Nat) ({ cls := "KnowHouseModel$QlRewriteModel", name := "thin", desc := "()V" } : Jvm.MethodName)) ∈ lw_all := lw_g (lw_at lw_m35 179 rfl) rfl
theorem q8819 : (Jvm.Cond.instanceMethod ({ cls := "KnowHouseModel$QlRewriteModel", name := "thin", desc := "()V" } : Jvm.MethodName)) ∈ lw_all := lw_g (lw_at lw_m35 181 rfl) rfl
theorem q8820 : (Jvm.Cond.code ({ cls := "KnowHouseModel$QlRewriteModel", name := "thin", desc := "()V" } : Jvm.MethodName) prog_86_method_19_code (3 : Nat) (Option.none : Option Jvm.ClassFile.FieldType)) ∈ lw_all := lw_g (lw_at lw_m35 182 rfl) rfl
theorem q8821 : (Jvm.Cond.methodLink "KnowHouseModel$QlRewriteModel" (145 : Nat) ({ cls := "KnowHouseModel$QlRewriteModel", name := "isOther", desc := "(I)Z" } : Jvm.MethodName)) ∈ lw_all := lw_g (lw_at lw_m35 183 rfl) rfl
theorem q8823 : (Jvm.Cond.instanceMethod ({ cls := "KnowHouseModel$QlRewriteModel", name := "isOther", desc := "(I)Z" } : Jvm.MethodName)) ∈ lw_all := lw_g (lw_at lw_m35 185 rfl) rfl
theorem q8824 : (Jvm.Cond.code ({ cls := "KnowHouseModel$QlRewriteModel", name := "isOther", desc := "(I)Z" } : Jvm.MethodName) prog_86_method_17_code (2 : Nat) (Option.some Jvm.ClassFile.FieldType.boolean)) ∈ lw_all := lw_g (lw_at lw_m35 186 rfl) rfl
theorem q8825 : (Jvm.Cond.methodLink "KnowHouseModel$QlRewriteModel" (148 : Nat) ({ cls := "KnowHouseModel$QlRewriteModel", name := "times", desc := "(I)I" } : Jvm.MethodName)) ∈ lw_all := lw_g (lw_at lw_m35 187 rfl) rfl
theorem q8827 : (Jvm.Cond.instanceMethod ({ cls := "KnowHouseModel$QlRewriteModel", name := "times", desc := "(I)I" } : Jvm.MethodName)) ∈ lw_all := lw_g (lw_at lw_m35 189 rfl) rfl
theorem q8828 : (Jvm.Cond.code ({ cls := "KnowHouseModel$QlRewriteModel", name := "times", desc := "(I)I" } : Jvm.MethodName) prog_86_method_16_code (4 : Nat) (Option.some Jvm.ClassFile.FieldType.int)) ∈ lw_all := lw_g (lw_at lw_m35 190 rfl) rfl
theorem q8829 : (Jvm.Cond.methodLink "KnowHouseModel$QlRewriteModel" (152 : Nat) ({ cls := "KnowHouseModel$QlRewriteModel", name := "goes", desc := "(I)Z" } : Jvm.MethodName)) ∈ lw_all := lw_g (lw_at lw_m35 191 rfl) rfl
theorem q8831 : (Jvm.Cond.instanceMethod ({ cls := "KnowHouseModel$QlRewriteModel", name := "goes", desc := "(I)Z" } : Jvm.MethodName)) ∈ lw_all := lw_g (lw_at lw_m35 193 rfl) rfl
theorem q8832 : (Jvm.Cond.code ({ cls := "KnowHouseModel$QlRewriteModel", name := "goes", desc := "(I)Z" } : Jvm.MethodName) prog_86_method_18_code (3 : Nat) (Option.some Jvm.ClassFile.FieldType.boolean)) ∈ lw_all := lw_g (lw_at lw_m35 194 rfl) rfl
theorem q8833 : (Jvm.Cond.methodLink "KnowHouseModel$QlRewriteModel" (161 : Nat) ({ cls := "KnowHouseModel$QlRewriteModel", name := "gather", desc := "(I)V" } : Jvm.MethodName)) ∈ lw_all := lw_g (lw_at lw_m35 195 rfl) rfl
theorem q8835 : (Jvm.Cond.instanceMethod ({ cls := "KnowHouseModel$QlRewriteModel", name := "gather", desc := "(I)V" } : Jvm.MethodName)) ∈ lw_all := lw_g (lw_at lw_m35 197 rfl) rfl
theorem q8836 : (Jvm.Cond.code ({ cls := "KnowHouseModel$QlRewriteModel", name := "gather", desc := "(I)V" } : Jvm.MethodName) prog_86_method_20_code (3 : Nat) (Option.none : Option Jvm.ClassFile.FieldType)) ∈ lw_all := lw_g (lw_at lw_m35 198 rfl) rfl
theorem q8837 : (Jvm.Cond.methodLink "KnowHouseModel$QlRewriteModel" (165 : Nat) ({ cls := "KnowHouseModel$QlRewriteModel", name := "isWay", desc := "(I)Z" } : Jvm.MethodName)) ∈ lw_all := lw_g (lw_at lw_m35 199 rfl) rfl
theorem q8839 : (Jvm.Cond.instanceMethod ({ cls := "KnowHouseModel$QlRewriteModel", name := "isWay", desc := "(I)Z" } : Jvm.MethodName)) ∈ lw_all := lw_g (lw_at lw_m35 201 rfl) rfl
theorem q8840 : (Jvm.Cond.code ({ cls := "KnowHouseModel$QlRewriteModel", name := "isWay", desc := "(I)Z" } : Jvm.MethodName) prog_86_method_22_code (5 : Nat) (Option.some Jvm.ClassFile.FieldType.boolean)) ∈ lw_all := lw_g (lw_at lw_m35 202 rfl) rfl
theorem q8841 : (Jvm.Cond.methodLink "KnowHouseModel$QlRewriteModel" (168 : Nat) ({ cls := "KnowHouseModel$QlRewriteModel", name := "named", desc := "(II)I" } : Jvm.MethodName)) ∈ lw_all := lw_g (lw_at lw_m35 203 rfl) rfl
theorem q8843 : (Jvm.Cond.instanceMethod ({ cls := "KnowHouseModel$QlRewriteModel", name := "named", desc := "(II)I" } : Jvm.MethodName)) ∈ lw_all := lw_g (lw_at lw_m35 205 rfl) rfl
theorem q8844 : (Jvm.Cond.code ({ cls := "KnowHouseModel$QlRewriteModel", name := "named", desc := "(II)I" } : Jvm.MethodName) prog_86_method_21_code (4 : Nat) (Option.some Jvm.ClassFile.FieldType.int)) ∈ lw_all := lw_g (lw_at lw_m35 206 rfl) rfl
theorem q8845 : (Jvm.Cond.methodLink "KnowHouseModel$QlRewriteModel" (172 : Nat) ({ cls := "KnowHouseModel$QlRewriteModel", name := "sortCodes", desc := "()V" } : Jvm.MethodName)) ∈ lw_all := lw_g (lw_at lw_m35 207 rfl) rfl
theorem q8847 : (Jvm.Cond.instanceMethod ({ cls := "KnowHouseModel$QlRewriteModel", name := "sortCodes", desc := "()V" } : Jvm.MethodName)) ∈ lw_all := lw_g (lw_at lw_m35 209 rfl) rfl
theorem q8848 : (Jvm.Cond.code ({ cls := "KnowHouseModel$QlRewriteModel", name := "sortCodes", desc := "()V" } : Jvm.MethodName) prog_86_method_23_code (4 : Nat) (Option.none : Option Jvm.ClassFile.FieldType)) ∈ lw_all := lw_g (lw_at lw_m35 210 rfl) rfl
theorem q8849 : (Jvm.Cond.methodLink "KnowHouseModel$QlRewriteModel" (175 : Nat) ({ cls := "KnowHouseModel$QlRewriteModel", name := "isThere", desc := "(II)Z" } : Jvm.MethodName)) ∈ lw_all := lw_g (lw_at lw_m35 211 rfl) rfl
theorem q8851 : (Jvm.Cond.instanceMethod ({ cls := "KnowHouseModel$QlRewriteModel", name := "isThere", desc := "(II)Z" } : Jvm.MethodName)) ∈ lw_all := lw_g (lw_at lw_m35 213 rfl) rfl
theorem q8852 : (Jvm.Cond.code ({ cls := "KnowHouseModel$QlRewriteModel", name := "isThere", desc := "(II)Z" } : Jvm.MethodName) prog_86_method_25_code (6 : Nat) (Option.some Jvm.ClassFile.FieldType.boolean)) ∈ lw_all := lw_g (lw_at lw_m35 214 rfl) rfl
theorem q8853 : (Jvm.Cond.methodLink "KnowHouseModel$QlRewriteModel" (178 : Nat) ({ cls := "KnowHouseModel$QlRewriteModel", name := "keep", desc := "(II)V" } : Jvm.MethodName)) ∈ lw_all := lw_g (lw_at lw_m35 215 rfl) rfl
theorem q8855 : (Jvm.Cond.instanceMethod ({ cls := "KnowHouseModel$QlRewriteModel", name := "keep", desc := "(II)V" } : Jvm.MethodName)) ∈ lw_all := lw_g (lw_at lw_m35 217 rfl) rfl
theorem q8856 : (Jvm.Cond.code ({ cls := "KnowHouseModel$QlRewriteModel", name := "keep", desc := "(II)V" } : Jvm.MethodName) prog_86_method_26_code (4 : Nat) (Option.none : Option Jvm.ClassFile.FieldType)) ∈ lw_all := lw_g (lw_at lw_m35 218 rfl) rfl
theorem q8857 : (Jvm.Cond.methodLink "KnowHouseModel$QlRewriteModel" (196 : Nat) ({ cls := "KnowHouseModel$QlRewriteModel", name := "rewriteSort", desc := "(III)V" } : Jvm.MethodName)) ∈ lw_all := lw_g (lw_at lw_m35 219 rfl) rfl
theorem q8859 : (Jvm.Cond.instanceMethod ({ cls := "KnowHouseModel$QlRewriteModel", name := "rewriteSort", desc := "(III)V" } : Jvm.MethodName)) ∈ lw_all := lw_g (lw_at lw_m35 221 rfl) rfl
theorem q8860 : (Jvm.Cond.code ({ cls := "KnowHouseModel$QlRewriteModel", name := "rewriteSort", desc := "(III)V" } : Jvm.MethodName) prog_86_method_27_code (7 : Nat) (Option.none : Option Jvm.ClassFile.FieldType)) ∈ lw_all := lw_g (lw_at lw_m35 222 rfl) rfl
theorem q8861 : (Jvm.Cond.methodLink "KnowHouseModel$QlRewriteModel" (187 : Nat) ({ cls := "KnowHouseModel$QlRewriteModel", name := "load", desc := "(I)V" } : Jvm.MethodName)) ∈ lw_all := lw_g (lw_at lw_m35 223 rfl) rfl
theorem q8863 : (Jvm.Cond.instanceMethod ({ cls := "KnowHouseModel$QlRewriteModel", name := "load", desc := "(I)V" } : Jvm.MethodName)) ∈ lw_all := lw_g (lw_at lw_m35 225 rfl) rfl
theorem q8864 : (Jvm.Cond.code ({ cls := "KnowHouseModel$QlRewriteModel", name := "load", desc := "(I)V" } : Jvm.MethodName) prog_86_method_15_code (4 : Nat) (Option.none : Option Jvm.ClassFile.FieldType)) ∈ lw_all := lw_g (lw_at lw_m35 226 rfl) rfl
theorem q8865 : (Jvm.Cond.methodLink "KnowHouseModel$QlRewriteModel" (199 : Nat) ({ cls := "KnowHouseModel$QlRewriteModel", name := "rewriteWay", desc := "(III)V" } : Jvm.MethodName)) ∈ lw_all := lw_g (lw_at lw_m35 227 rfl) rfl
theorem q8867 : (Jvm.Cond.instanceMethod ({ cls := "KnowHouseModel$QlRewriteModel", name := "rewriteWay", desc := "(III)V" } : Jvm.MethodName)) ∈ lw_all := lw_g (lw_at lw_m35 229 rfl) rfl
theorem q8868 : (Jvm.Cond.code ({ cls := "KnowHouseModel$QlRewriteModel", name := "rewriteWay", desc := "(III)V" } : Jvm.MethodName) prog_86_method_28_code (5 : Nat) (Option.none : Option Jvm.ClassFile.FieldType)) ∈ lw_all := lw_g (lw_at lw_m35 230 rfl) rfl
theorem q8869 : (Jvm.Cond.methodLink "KnowHouseModel$QlRewriteModel" (202 : Nat) ({ cls := "KnowHouseModel$QlRewriteModel", name := "unite", desc := "(III)V" } : Jvm.MethodName)) ∈ lw_all := lw_g (lw_at lw_m35 231 rfl) rfl
theorem q8871 : (Jvm.Cond.instanceMethod ({ cls := "KnowHouseModel$QlRewriteModel", name := "unite", desc := "(III)V" } : Jvm.MethodName)) ∈ lw_all := lw_g (lw_at lw_m35 233 rfl) rfl
theorem q8872 : (Jvm.Cond.code ({ cls := "KnowHouseModel$QlRewriteModel", name := "unite", desc := "(III)V" } : Jvm.MethodName) prog_86_method_30_code (5 : Nat) (Option.none : Option Jvm.ClassFile.FieldType)) ∈ lw_all := lw_g (lw_at lw_m35 234 rfl) rfl
theorem q8873 : (Jvm.Cond.methodLink "KnowHouseModel$QlRewriteModel" (193 : Nat) ({ cls := "KnowHouseModel$QlRewriteModel", name := "rename", desc := "(II)V" } : Jvm.MethodName)) ∈ lw_all := lw_g (lw_at lw_m35 235 rfl) rfl
theorem q8875 : (Jvm.Cond.instanceMethod ({ cls := "KnowHouseModel$QlRewriteModel", name := "rename", desc := "(II)V" } : Jvm.MethodName)) ∈ lw_all := lw_g (lw_at lw_m35 237 rfl) rfl
theorem q8876 : (Jvm.Cond.code ({ cls := "KnowHouseModel$QlRewriteModel", name := "rename", desc := "(II)V" } : Jvm.MethodName) prog_86_method_29_code (4 : Nat) (Option.none : Option Jvm.ClassFile.FieldType)) ∈ lw_all := lw_g (lw_at lw_m35 238 rfl) rfl
theorem q8885 : (Jvm.Cond.methodLink "KnowHouseModel$QlRewriteModel" (224 : Nat) ({ cls := "KnowHouseModel$QlRewriteModel", name := "findAll", desc := "()V" } : Jvm.MethodName)) ∈ lw_all := lw_g (lw_at lw_m36 7 rfl) rfl
theorem q8887 : (Jvm.Cond.instanceMethod ({ cls := "KnowHouseModel$QlRewriteModel", name := "findAll", desc := "()V" } : Jvm.MethodName)) ∈ lw_all := lw_g (lw_at lw_m36 9 rfl) rfl
theorem q8888 : (Jvm.Cond.code ({ cls := "KnowHouseModel$QlRewriteModel", name := "findAll", desc := "()V" } : Jvm.MethodName) prog_86_method_36_code (2 : Nat) (Option.none : Option Jvm.ClassFile.FieldType)) ∈ lw_all := lw_g (lw_at lw_m36 10 rfl) rfl
theorem q8889 : (Jvm.Cond.methodLink "KnowHouseModel$QlRewriteModel" (215 : Nat) ({ cls := "KnowHouseModel$QlRewriteModel", name := "find", desc := "(I)V" } : Jvm.MethodName)) ∈ lw_all := lw_g (lw_at lw_m36 11 rfl) rfl
theorem q8891 : (Jvm.Cond.instanceMethod ({ cls := "KnowHouseModel$QlRewriteModel", name := "find", desc := "(I)V" } : Jvm.MethodName)) ∈ lw_all := lw_g (lw_at lw_m36 13 rfl) rfl
theorem q8892 : (Jvm.Cond.code ({ cls := "KnowHouseModel$QlRewriteModel", name := "find", desc := "(I)V" } : Jvm.MethodName) prog_86_method_34_code (4 : Nat) (Option.none : Option Jvm.ClassFile.FieldType)) ∈ lw_all := lw_g (lw_at lw_m36 14 rfl) rfl
theorem q8893 : (Jvm.Cond.methodLink "KnowHouseModel$QlRewriteModel" (205 : Nat) ({ cls := "KnowHouseModel$QlRewriteModel", name := "undo", desc := "(II)V" } : Jvm.MethodName)) ∈ lw_all := lw_g (lw_at lw_m36 15 rfl) rfl
theorem q8895 : (Jvm.Cond.instanceMethod ({ cls := "KnowHouseModel$QlRewriteModel", name := "undo", desc := "(II)V" } : Jvm.MethodName)) ∈ lw_all := lw_g (lw_at lw_m36 17 rfl) rfl
theorem q8896 : (Jvm.Cond.code ({ cls := "KnowHouseModel$QlRewriteModel", name := "undo", desc := "(II)V" } : Jvm.MethodName) prog_86_method_33_code (3 : Nat) (Option.none : Option Jvm.ClassFile.FieldType)) ∈ lw_all := lw_g (lw_at lw_m36 18 rfl) rfl
theorem q8897 : (Jvm.Cond.methodLink "KnowHouseModel$QlRewriteModel" (208 : Nat) ({ cls := "KnowHouseModel$QlRewriteModel", name := "takes", desc := "(III)Z" } : Jvm.MethodName)) ∈ lw_all := lw_g (lw_at lw_m36 19 rfl) rfl
theorem q8899 : (Jvm.Cond.instanceMethod ({ cls := "KnowHouseModel$QlRewriteModel", name := "takes", desc := "(III)Z" } : Jvm.MethodName)) ∈ lw_all := lw_g (lw_at lw_m36 21 rfl) rfl
theorem q8900 : (Jvm.Cond.code ({ cls := "KnowHouseModel$QlRewriteModel", name := "takes", desc := "(III)Z" } : Jvm.MethodName) prog_86_method_32_code (6 : Nat) (Option.some Jvm.ClassFile.FieldType.boolean)) ∈ lw_all := lw_g (lw_at lw_m36 22 rfl) rfl
theorem q8901 : (Jvm.Cond.methodLink "KnowHouseModel$QlRewriteModel" (212 : Nat) ({ cls := "KnowHouseModel$QlRewriteModel", name := "note", desc := "(I)V" } : Jvm.MethodName)) ∈ lw_all := lw_g (lw_at lw_m36 23 rfl) rfl
theorem q8903 : (Jvm.Cond.instanceMethod ({ cls := "KnowHouseModel$QlRewriteModel", name := "note", desc := "(I)V" } : Jvm.MethodName)) ∈ lw_all := lw_g (lw_at lw_m36 25 rfl) rfl
theorem q8904 : (Jvm.Cond.code ({ cls := "KnowHouseModel$QlRewriteModel", name := "note", desc := "(I)V" } : Jvm.MethodName) prog_86_method_35_code (4 : Nat) (Option.none : Option Jvm.ClassFile.FieldType)) ∈ lw_all := lw_g (lw_at lw_m36 26 rfl) rfl
theorem q8917 : (Jvm.Cond.methodLink "KnowHouseModel$QlRewriteModel" (227 : Nat) ({ cls := "KnowHouseModel$QlRewriteModel", name := "lay", desc := "(I)V" } : Jvm.MethodName)) ∈ lw_all := lw_g (lw_at lw_m36 39 rfl) rfl
theorem q8919 : (Jvm.Cond.instanceMethod ({ cls := "KnowHouseModel$QlRewriteModel", name := "lay", desc := "(I)V" } : Jvm.MethodName)) ∈ lw_all := lw_g (lw_at lw_m36 41 rfl) rfl
theorem q8920 : (Jvm.Cond.code ({ cls := "KnowHouseModel$QlRewriteModel", name := "lay", desc := "(I)V" } : Jvm.MethodName) prog_86_method_43_code (6 : Nat) (Option.none : Option Jvm.ClassFile.FieldType)) ∈ lw_all := lw_g (lw_at lw_m36 42 rfl) rfl
theorem gX56_92 : GoodIn lw_all (va_wsS RX56 92 yX56_isIn (ws_ yX56_isIn cX56_isIn 2 (Option.some Jvm.ClassFile.FieldType.boolean))) := lw_S q7579 q7580 q551 q7581
theorem gX56_96 : GoodIn lw_all (va_wsS RX56 96 yX56_isSort (ws_ yX56_isSort cX56_isSort 1 (Option.some Jvm.ClassFile.FieldType.boolean))) := lw_S q7582 q7583 q551 q7584
theorem gX56_103 : GoodIn lw_all (wsV RX56 103 RX56 yX56_change (ws_ yX56_change cX56_change 1 (Option.none : Option Jvm.ClassFile.FieldType))) := lw_V q7585 q7587 qs296 q551 q7588
theorem gX56_109 : GoodIn lw_all (va_wsS RX56 109 yX56_isGood (ws_ yX56_isGood cX56_isGood 4 (Option.some Jvm.ClassFile.FieldType.boolean))) := lw_S q7602 q7603 q551 q7604
theorem gX56_113 : GoodIn lw_all (wsV RX56 113 RX56 yX56_findFact (ws_ yX56_findFact cX56_findFact 5 (Option.some Jvm.ClassFile.FieldType.int))) := lw_V q7605 q7607 qs298 q551 q7608
theorem gX56_124 : GoodIn lw_all (wsV RX56 124 RX56 yX56_put (ws_ yX56_put cX56_put 6 (Option.none : Option Jvm.ClassFile.FieldType))) := lw_V q8789 q8791 qs447 q551 q8792
theorem gX56_137 : GoodIn lw_all (wsV RX56 137 RX56 yX56_begin (ws_ yX56_begin cX56_begin 3 (Option.none : Option Jvm.ClassFile.FieldType))) := lw_V q8805 q8807 qs450 q551 q8808
theorem gX56_141 : GoodIn lw_all (wsV RX56 141 RX56 yX56_add (ws_ yX56_add cX56_add 4 (Option.none : Option Jvm.ClassFile.FieldType))) := lw_V q8809 q8811 qs451 q551 q8812
theorem gX56_145 : GoodIn lw_all (wsV RX56 145 RX56 yX56_isOther (ws_ yX56_isOther cX56_isOther 2 (Option.some Jvm.ClassFile.FieldType.boolean))) := lw_V q8821 q8823 qs454 q551 q8824
theorem gX56_148 : GoodIn lw_all (wsV RX56 148 RX56 yX56_times (ws_ yX56_times cX56_times 4 (Option.some Jvm.ClassFile.FieldType.int))) := lw_V q8825 q8827 qs455 q551 q8828
theorem gX56_152 : GoodIn lw_all (wsV RX56 152 RX56 yX56_goes (ws_ yX56_goes cX56_goes 3 (Option.some Jvm.ClassFile.FieldType.boolean))) := lw_V q8829 q8831 qs456 q551 q8832
theorem gX56_158 : GoodIn lw_all (wsV RX56 158 RX56 yX56_thin (ws_ yX56_thin cX56_thin 3 (Option.none : Option Jvm.ClassFile.FieldType))) := lw_V q8817 q8819 qs453 q551 q8820
theorem gX56_161 : GoodIn lw_all (wsV RX56 161 RX56 yX56_gather (ws_ yX56_gather cX56_gather 3 (Option.none : Option Jvm.ClassFile.FieldType))) := lw_V q8833 q8835 qs457 q551 q8836
theorem gX56_165 : GoodIn lw_all (wsV RX56 165 RX56 yX56_isWay (ws_ yX56_isWay cX56_isWay 5 (Option.some Jvm.ClassFile.FieldType.boolean))) := lw_V q8837 q8839 qs458 q551 q8840
theorem gX56_168 : GoodIn lw_all (wsV RX56 168 RX56 yX56_named (ws_ yX56_named cX56_named 4 (Option.some Jvm.ClassFile.FieldType.int))) := lw_V q8841 q8843 qs459 q551 q8844
theorem gX56_172 : GoodIn lw_all (wsV RX56 172 RX56 yX56_sortCodes (ws_ yX56_sortCodes cX56_sortCodes 4 (Option.none : Option Jvm.ClassFile.FieldType))) := lw_V q8845 q8847 qs460 q551 q8848
theorem gX56_175 : GoodIn lw_all (wsV RX56 175 RX56 yX56_isThere (ws_ yX56_isThere cX56_isThere 6 (Option.some Jvm.ClassFile.FieldType.boolean))) := lw_V q8849 q8851 qs461 q551 q8852
theorem gX56_178 : GoodIn lw_all (wsV RX56 178 RX56 yX56_keep (ws_ yX56_keep cX56_keep 4 (Option.none : Option Jvm.ClassFile.FieldType))) := lw_V q8853 q8855 qs462 q551 q8856
theorem gX56_187 : GoodIn lw_all (wsV RX56 187 RX56 yX56_load (ws_ yX56_load cX56_load 4 (Option.none : Option Jvm.ClassFile.FieldType))) := lw_V q8861 q8863 qs464 q551 q8864
theorem gX56_190 : GoodIn lw_all (wsV RX56 190 RX56 yX56_finish (ws_ yX56_finish cX56_finish 6 (Option.none : Option Jvm.ClassFile.FieldType))) := lw_V q8813 q8815 qs452 q551 q8816
theorem gX56_193 : GoodIn lw_all (wsV RX56 193 RX56 yX56_rename (ws_ yX56_rename cX56_rename 4 (Option.none : Option Jvm.ClassFile.FieldType))) := lw_V q8873 q8875 qs467 q551 q8876
theorem gX56_196 : GoodIn lw_all (wsV RX56 196 RX56 yX56_rewriteSort (ws_ yX56_rewriteSort cX56_rewriteSort 7 (Option.none : Option Jvm.ClassFile.FieldType))) := lw_V q8857 q8859 qs463 q551 q8860
theorem gX56_199 : GoodIn lw_all (wsV RX56 199 RX56 yX56_rewriteWay (ws_ yX56_rewriteWay cX56_rewriteWay 5 (Option.none : Option Jvm.ClassFile.FieldType))) := lw_V q8865 q8867 qs465 q551 q8868
theorem gX56_202 : GoodIn lw_all (wsV RX56 202 RX56 yX56_unite (ws_ yX56_unite cX56_unite 5 (Option.none : Option Jvm.ClassFile.FieldType))) := lw_V q8869 q8871 qs466 q551 q8872
theorem gX56_205 : GoodIn lw_all (wsV RX56 205 RX56 yX56_undo (ws_ yX56_undo cX56_undo 3 (Option.none : Option Jvm.ClassFile.FieldType))) := lw_V q8893 q8895 qs470 q551 q8896
theorem gX56_208 : GoodIn lw_all (wsV RX56 208 RX56 yX56_takes (ws_ yX56_takes cX56_takes 6 (Option.some Jvm.ClassFile.FieldType.boolean))) := lw_V q8897 q8899 qs471 q551 q8900
theorem gX56_212 : GoodIn lw_all (wsV RX56 212 RX56 yX56_note (ws_ yX56_note cX56_note 4 (Option.none : Option Jvm.ClassFile.FieldType))) := lw_V q8901 q8903 qs472 q551 q8904
theorem gX56_215 : GoodIn lw_all (wsV RX56 215 RX56 yX56_find (ws_ yX56_find cX56_find 4 (Option.none : Option Jvm.ClassFile.FieldType))) := lw_V q8889 q8891 qs469 q551 q8892
theorem gX56_218 : GoodIn lw_all (wsV RX56 218 RX56 yX56_look (ws_ yX56_look cX56_look 5 (Option.none : Option Jvm.ClassFile.FieldType))) := lw_V q8801 q8803 qs449 q551 q8804
theorem gX56_221 : GoodIn lw_all (wsV RX56 221 RX56 yX56_ready (ws_ yX56_ready cX56_ready 2 (Option.some Jvm.ClassFile.FieldType.int))) := lw_V q8797 q8799 qs448 q551 q8800
theorem gX56_224 : GoodIn lw_all (wsV RX56 224 RX56 yX56_findAll (ws_ yX56_findAll cX56_findAll 2 (Option.none : Option Jvm.ClassFile.FieldType))) := lw_V q8885 q8887 qs468 q551 q8888
theorem gX56_227 : GoodIn lw_all (wsV RX56 227 RX56 yX56_lay (ws_ yX56_lay cX56_lay 6 (Option.none : Option Jvm.ClassFile.FieldType))) := lw_V q8917 q8919 qs473 q551 q8920
theorem hX56_add : yX56_add.cls = RX56 ∧ yX56_add.cls ≠ "java/lang/invoke/MethodHandle" ∧ yX56_add.cls ≠ "java/lang/invoke/VarHandle" ∧ (parseMethodDescriptor yX56_add.desc).map (fun d => d.parameters.length) = some 3 := by decide +kernel
theorem hX56_begin : yX56_begin.cls = RX56 ∧ yX56_begin.cls ≠ "java/lang/invoke/MethodHandle" ∧ yX56_begin.cls ≠ "java/lang/invoke/VarHandle" ∧ (parseMethodDescriptor yX56_begin.desc).map (fun d => d.parameters.length) = some 2 := by decide +kernel
theorem hX56_change : yX56_change.cls = RX56 ∧ yX56_change.cls ≠ "java/lang/invoke/MethodHandle" ∧ yX56_change.cls ≠ "java/lang/invoke/VarHandle" ∧ (parseMethodDescriptor yX56_change.desc).map (fun d => d.parameters.length) = some 0 := by decide +kernel
theorem hX56_find : yX56_find.cls = RX56 ∧ yX56_find.cls ≠ "java/lang/invoke/MethodHandle" ∧ yX56_find.cls ≠ "java/lang/invoke/VarHandle" ∧ (parseMethodDescriptor yX56_find.desc).map (fun d => d.parameters.length) = some 1 := by decide +kernel
theorem hX56_findAll : yX56_findAll.cls = RX56 ∧ yX56_findAll.cls ≠ "java/lang/invoke/MethodHandle" ∧ yX56_findAll.cls ≠ "java/lang/invoke/VarHandle" ∧ (parseMethodDescriptor yX56_findAll.desc).map (fun d => d.parameters.length) = some 0 := by decide +kernel
theorem hX56_findFact : yX56_findFact.cls = RX56 ∧ yX56_findFact.cls ≠ "java/lang/invoke/MethodHandle" ∧ yX56_findFact.cls ≠ "java/lang/invoke/VarHandle" ∧ (parseMethodDescriptor yX56_findFact.desc).map (fun d => d.parameters.length) = some 3 := by decide +kernel
theorem hX56_finish : yX56_finish.cls = RX56 ∧ yX56_finish.cls ≠ "java/lang/invoke/MethodHandle" ∧ yX56_finish.cls ≠ "java/lang/invoke/VarHandle" ∧ (parseMethodDescriptor yX56_finish.desc).map (fun d => d.parameters.length) = some 0 := by decide +kernel
theorem hX56_gather : yX56_gather.cls = RX56 ∧ yX56_gather.cls ≠ "java/lang/invoke/MethodHandle" ∧ yX56_gather.cls ≠ "java/lang/invoke/VarHandle" ∧ (parseMethodDescriptor yX56_gather.desc).map (fun d => d.parameters.length) = some 1 := by decide +kernel
theorem hX56_goes : yX56_goes.cls = RX56 ∧ yX56_goes.cls ≠ "java/lang/invoke/MethodHandle" ∧ yX56_goes.cls ≠ "java/lang/invoke/VarHandle" ∧ (parseMethodDescriptor yX56_goes.desc).map (fun d => d.parameters.length) = some 1 := by decide +kernel
theorem hX56_isGood : yX56_isGood.cls ≠ "java/lang/invoke/MethodHandle" ∧ yX56_isGood.cls ≠ "java/lang/invoke/VarHandle" ∧ (parseMethodDescriptor yX56_isGood.desc).map (fun d => d.parameters.length) = some 4 := by decide +kernel
theorem hX56_isIn : yX56_isIn.cls ≠ "java/lang/invoke/MethodHandle" ∧ yX56_isIn.cls ≠ "java/lang/invoke/VarHandle" ∧ (parseMethodDescriptor yX56_isIn.desc).map (fun d => d.parameters.length) = some 2 := by decide +kernel
theorem hX56_isOther : yX56_isOther.cls = RX56 ∧ yX56_isOther.cls ≠ "java/lang/invoke/MethodHandle" ∧ yX56_isOther.cls ≠ "java/lang/invoke/VarHandle" ∧ (parseMethodDescriptor yX56_isOther.desc).map (fun d => d.parameters.length) = some 1 := by decide +kernel
theorem hX56_isSort : yX56_isSort.cls ≠ "java/lang/invoke/MethodHandle" ∧ yX56_isSort.cls ≠ "java/lang/invoke/VarHandle" ∧ (parseMethodDescriptor yX56_isSort.desc).map (fun d => d.parameters.length) = some 1 := by decide +kernel
theorem hX56_isThere : yX56_isThere.cls = RX56 ∧ yX56_isThere.cls ≠ "java/lang/invoke/MethodHandle" ∧ yX56_isThere.cls ≠ "java/lang/invoke/VarHandle" ∧ (parseMethodDescriptor yX56_isThere.desc).map (fun d => d.parameters.length) = some 2 := by decide +kernel
theorem hX56_isWay : yX56_isWay.cls = RX56 ∧ yX56_isWay.cls ≠ "java/lang/invoke/MethodHandle" ∧ yX56_isWay.cls ≠ "java/lang/invoke/VarHandle" ∧ (parseMethodDescriptor yX56_isWay.desc).map (fun d => d.parameters.length) = some 1 := by decide +kernel
theorem hX56_keep : yX56_keep.cls = RX56 ∧ yX56_keep.cls ≠ "java/lang/invoke/MethodHandle" ∧ yX56_keep.cls ≠ "java/lang/invoke/VarHandle" ∧ (parseMethodDescriptor yX56_keep.desc).map (fun d => d.parameters.length) = some 2 := by decide +kernel
theorem hX56_lay : yX56_lay.cls = RX56 ∧ yX56_lay.cls ≠ "java/lang/invoke/MethodHandle" ∧ yX56_lay.cls ≠ "java/lang/invoke/VarHandle" ∧ (parseMethodDescriptor yX56_lay.desc).map (fun d => d.parameters.length) = some 1 := by decide +kernel
theorem hX56_load : yX56_load.cls = RX56 ∧ yX56_load.cls ≠ "java/lang/invoke/MethodHandle" ∧ yX56_load.cls ≠ "java/lang/invoke/VarHandle" ∧ (parseMethodDescriptor yX56_load.desc).map (fun d => d.parameters.length) = some 1 := by decide +kernel
theorem hX56_look : yX56_look.cls = RX56 ∧ yX56_look.cls ≠ "java/lang/invoke/MethodHandle" ∧ yX56_look.cls ≠ "java/lang/invoke/VarHandle" ∧ (parseMethodDescriptor yX56_look.desc).map (fun d => d.parameters.length) = some 1 := by decide +kernel
theorem hX56_named : yX56_named.cls = RX56 ∧ yX56_named.cls ≠ "java/lang/invoke/MethodHandle" ∧ yX56_named.cls ≠ "java/lang/invoke/VarHandle" ∧ (parseMethodDescriptor yX56_named.desc).map (fun d => d.parameters.length) = some 2 := by decide +kernel
theorem hX56_note : yX56_note.cls = RX56 ∧ yX56_note.cls ≠ "java/lang/invoke/MethodHandle" ∧ yX56_note.cls ≠ "java/lang/invoke/VarHandle" ∧ (parseMethodDescriptor yX56_note.desc).map (fun d => d.parameters.length) = some 1 := by decide +kernel
theorem hX56_put : yX56_put.cls = RX56 ∧ yX56_put.cls ≠ "java/lang/invoke/MethodHandle" ∧ yX56_put.cls ≠ "java/lang/invoke/VarHandle" ∧ (parseMethodDescriptor yX56_put.desc).map (fun d => d.parameters.length) = some 4 := by decide +kernel
theorem hX56_ready : yX56_ready.cls = RX56 ∧ yX56_ready.cls ≠ "java/lang/invoke/MethodHandle" ∧ yX56_ready.cls ≠ "java/lang/invoke/VarHandle" ∧ (parseMethodDescriptor yX56_ready.desc).map (fun d => d.parameters.length) = some 1 := by decide +kernel
theorem hX56_rename : yX56_rename.cls = RX56 ∧ yX56_rename.cls ≠ "java/lang/invoke/MethodHandle" ∧ yX56_rename.cls ≠ "java/lang/invoke/VarHandle" ∧ (parseMethodDescriptor yX56_rename.desc).map (fun d => d.parameters.length) = some 2 := by decide +kernel
theorem hX56_rewriteSort : yX56_rewriteSort.cls = RX56 ∧ yX56_rewriteSort.cls ≠ "java/lang/invoke/MethodHandle" ∧ yX56_rewriteSort.cls ≠ "java/lang/invoke/VarHandle" ∧ (parseMethodDescriptor yX56_rewriteSort.desc).map (fun d => d.parameters.length) = some 3 := by decide +kernel
theorem hX56_rewriteWay : yX56_rewriteWay.cls = RX56 ∧ yX56_rewriteWay.cls ≠ "java/lang/invoke/MethodHandle" ∧ yX56_rewriteWay.cls ≠ "java/lang/invoke/VarHandle" ∧ (parseMethodDescriptor yX56_rewriteWay.desc).map (fun d => d.parameters.length) = some 3 := by decide +kernel
theorem hX56_sortCodes : yX56_sortCodes.cls = RX56 ∧ yX56_sortCodes.cls ≠ "java/lang/invoke/MethodHandle" ∧ yX56_sortCodes.cls ≠ "java/lang/invoke/VarHandle" ∧ (parseMethodDescriptor yX56_sortCodes.desc).map (fun d => d.parameters.length) = some 0 := by decide +kernel
theorem hX56_takes : yX56_takes.cls = RX56 ∧ yX56_takes.cls ≠ "java/lang/invoke/MethodHandle" ∧ yX56_takes.cls ≠ "java/lang/invoke/VarHandle" ∧ (parseMethodDescriptor yX56_takes.desc).map (fun d => d.parameters.length) = some 3 := by decide +kernel
theorem hX56_thin : yX56_thin.cls = RX56 ∧ yX56_thin.cls ≠ "java/lang/invoke/MethodHandle" ∧ yX56_thin.cls ≠ "java/lang/invoke/VarHandle" ∧ (parseMethodDescriptor yX56_thin.desc).map (fun d => d.parameters.length) = some 0 := by decide +kernel
theorem hX56_times : yX56_times.cls = RX56 ∧ yX56_times.cls ≠ "java/lang/invoke/MethodHandle" ∧ yX56_times.cls ≠ "java/lang/invoke/VarHandle" ∧ (parseMethodDescriptor yX56_times.desc).map (fun d => d.parameters.length) = some 1 := by decide +kernel
theorem hX56_undo : yX56_undo.cls = RX56 ∧ yX56_undo.cls ≠ "java/lang/invoke/MethodHandle" ∧ yX56_undo.cls ≠ "java/lang/invoke/VarHandle" ∧ (parseMethodDescriptor yX56_undo.desc).map (fun d => d.parameters.length) = some 2 := by decide +kernel
theorem hX56_unite : yX56_unite.cls = RX56 ∧ yX56_unite.cls ≠ "java/lang/invoke/MethodHandle" ∧ yX56_unite.cls ≠ "java/lang/invoke/VarHandle" ∧ (parseMethodDescriptor yX56_unite.desc).map (fun d => d.parameters.length) = some 3 := by decide +kernel
